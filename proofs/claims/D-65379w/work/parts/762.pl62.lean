set_option maxRecDepth 100000
set_option maxHeartbeats 4000000
/-! The plain law: expressions in the class's statements. -/
theorem Ps_ge {B : Nat → Nat} {n : Nat} (hS : qS B n) {a : Option qSm} {l d p : Nat} {s : qSm} {o : qOu} (h : Ps B n a l d p s o) (e : qEv) : p ≤ n → ∀ f, (s e).1 = some f → (∃ s0, a = some s0 ∧ (s0 e).1 = some f) ∨ (p ≤ f.2 ∧ f.2 ≤ n ∧ 4 ≤ f.1 ∧ f.1 ≤ 5) := by
  refine (h (fun a l d p s o => Ps B n a l d p s o ∧ (p ≤ n → ∀ f, (s e).1 = some f → (∃ s0, a = some s0 ∧ (s0 e).1 = some f) ∨ (p ≤ f.2 ∧ f.2 ≤ n ∧ 4 ≤ f.1 ∧ f.1 ≤ 5))) ⟨?_, ?_, ?_, ?_, ?_, ?_, ?_, ?_, ?_, ?_, ?_, ?_, ?_, ?_, ?_⟩).2
  · intro d p h; exact ⟨Ps_num d p h, fun _ f hf => absurd hf (by simp)⟩
  · intro d p h; exact ⟨Ps_org d p h, fun _ f hf => absurd hf (by simp)⟩
  · intro d p h h2
    refine ⟨Ps_nam d p h h2, fun hp f hf => Or.inr ?_⟩
    have hb := qT_b hS p hp
    unfold qnv at hf
    cases hv : e.1 (qna B (qT B n p)) with
    | some v => rw [hv] at hf; exact absurd hf (by simp)
    | none =>
      rw [hv] at hf
      have := Option.some.inj hf
      rw [← this]; exact ⟨hb.1, hb.2.1, by show 4 ≤ 4; omega, by show 4 ≤ 5; omega⟩
  · intro d p h h2; exact ⟨Ps_res d p h h2, fun _ f hf => absurd hf (by simp [qsz])⟩
  · intro d p s o h hd h2
    refine ⟨Ps_una d p s o h hd h2.1, fun hp f hf => ?_⟩
    have hb := qT_b hS p hp
    have := hb.1
    have := hb.2.2.2.1 (by omega) (by omega)
    rcases h2.2 hb.2.2.1 f hf with ⟨s0, h0, _⟩ | h0
    · exact absurd h0 (by simp)
    · exact Or.inr ⟨by omega, h0.2⟩
  · intro d p s f h hd h2
    refine ⟨Ps_brt d p s f h hd h2.1, fun hp f hf => ?_⟩
    have hb := qT_b hS p hp
    have := hb.1
    have := hb.2.2.2.1 (by omega) (by omega)
    rcases h2.2 hb.2.2.1 f hf with ⟨s0, h0, _⟩ | h0
    · exact absurd h0 (by simp)
    · exact Or.inr ⟨by omega, h0.2⟩
  · intro d p s p' h hd h2 h3
    refine ⟨Ps_bra d p s p' h hd h2.1 h3, fun hp f hf => ?_⟩
    have hb := qT_b hS p hp
    have := hb.1
    have := hb.2.2.2.1 (by omega) (by omega)
    rcases h2.2 hb.2.2.1 f hf with ⟨s0, h0, _⟩ | h0
    · exact absurd h0 (by simp)
    · exact Or.inr ⟨by omega, h0.2⟩
  · intro d p s p' h hd h2 h3
    refine ⟨Ps_brw d p s p' h hd h2.1 h3, fun hp f hf => ?_⟩
    have hb := qT_b hS p hp
    have := hb.1
    have := hb.2.2.2.1 (by omega) (by omega)
    rcases h2.2 hb.2.2.1 f hf with ⟨s0, h0, _⟩ | h0
    · exact absurd h0 (by simp)
    · exact Or.inr ⟨by omega, h0.2⟩
  · intro d p h hd; exact ⟨Ps_dep d p h hd, fun _ f hf => absurd hf (by simp [qsz])⟩
  · intro d p h; exact ⟨Ps_bad d p h, fun _ f hf => absurd hf (by simp [qsz])⟩
  · intro l d p s f h1 h6 h
    refine ⟨Ps_lvt l d p s f h1 h6 h.1, fun hp f hf => ?_⟩
    rcases h.2 hp f hf with ⟨s0, h0, _⟩ | h0
    · exact absurd h0 (by simp)
    · exact Or.inr h0
  · intro l d p s p' s' o h1 h6 h h2
    refine ⟨Ps_lv l d p s p' s' o h1 h6 h.1 h2.1, fun hp f hf => ?_⟩
    have t := Ps_lt hS h.1 hp p' rfl
    rcases h2.2 t.1 f hf with ⟨s0, h0, h00⟩ | h0
    · have := Option.some.inj h0; subst this
      rcases h.2 hp f h00 with ⟨s0, h0, _⟩ | h0
      · exact absurd h0 (by simp)
      · exact Or.inr h0
    · exact Or.inr ⟨by omega, h0.2⟩
  · intro s l d p h1 h6 h
    exact ⟨Ps_stop s l d p h1 h6 h, fun _ f hf => Or.inl ⟨s, rfl, hf⟩⟩
  · intro s l d p s2 f h1 h6 h h2
    refine ⟨Ps_opt s l d p s2 f h1 h6 h h2.1, fun hp f hf => ?_⟩
    have hb := qT_b hS p hp
    have hk := qlv_k (k := (qT B n p).1) (by omega)
    have := hb.1
    have := hb.2.2.2.1 hk.1 hk.2.1
    have hf' : qoe (s e).1 (s2 e).1 = some f := hf
    cases hs : (s e).1 with
    | some g => rw [hs] at hf'; exact Or.inl ⟨s, rfl, hs.trans hf'⟩
    | none =>
      rw [hs] at hf'
      rcases h2.2 hb.2.2.1 f hf' with ⟨s0, h0, _⟩ | h0
      · exact absurd h0 (by simp)
      · exact Or.inr ⟨by omega, h0.2⟩
  · intro s l d p s2 p' s' o h1 h6 h h2 h3
    refine ⟨Ps_op s l d p s2 p' s' o h1 h6 h h2.1 h3.1, fun hp f hf => ?_⟩
    have hb := qT_b hS p hp
    have hk := qlv_k (k := (qT B n p).1) (by omega)
    have hb1 := hb.1
    have hb2 := hb.2.2.2.1 hk.1 hk.2.1
    have t := Ps_lt hS h2.1 hb.2.2.1 p' rfl
    rcases h3.2 t.1 f hf with ⟨s0, h0, h00⟩ | h0
    · have := Option.some.inj h0; subst this
      have h00' : qoe (s e).1 (qoe (s2 e).1 (if (qT B n p).1 = 47 ∧ (s2 e).2 = 0 then some (5, (qT B n p).2.1) else none)) = some f := h00
      cases hs : (s e).1 with
      | some g => rw [hs] at h00'; exact Or.inl ⟨s, rfl, hs.trans h00'⟩
      | none =>
        rw [hs] at h00'
        cases hs2 : (s2 e).1 with
        | some g =>
          rw [hs2] at h00'
          rcases h2.2 hb.2.2.1 f (hs2.trans h00') with ⟨s0, h0, _⟩ | h0
          · exact absurd h0 (by simp)
          · exact Or.inr ⟨by omega, h0.2⟩
        | none =>
          rw [hs2] at h00'
          have h1' : (if (qT B n p).1 = 47 ∧ (s2 e).2 = 0 then some (5, (qT B n p).2.1) else none) = some f := h00'
          by_cases c : (qT B n p).1 = 47 ∧ (s2 e).2 = 0
          · rw [if_pos c] at h1'
            have := Option.some.inj h1'
            rw [← this]; exact Or.inr ⟨hb1, hb.2.1, by show 4 ≤ 5; omega, by show 5 ≤ 5; omega⟩
          · rw [if_neg c] at h1'; exact absurd h1' (by simp)
    · exact Or.inr ⟨by omega, h0.2⟩
theorem qEX_ge {B : Nat → Nat} {n p : Nat} (hS : qS B n) (hp : p ≤ n) (e : qEv) (f : Nat × Nat) (h : ((qEX B n p).1 e).1 = some f) : p ≤ f.2 ∧ f.2 ≤ n ∧ 4 ≤ f.1 ∧ f.1 ≤ 5 := by
  rcases Ps_ge hS (qEX_s hS hp) e hp f h with ⟨s0, h0, _⟩ | h0
  · exact absurd h0 (by simp)
  · exact h0
theorem Ps_tp {B : Nat → Nat} {n : Nat} (hS : qS B n) {a : Option qSm} {l d p : Nat} {s : qSm} {o : qOu} (h : Ps B n a l d p s o) : p ≤ n → ∀ f, o = .inl f → p ≤ f.2 := by
  have tk : ∀ p, p ≤ n → (qT B n p).1 ≠ 0 → (qT B n p).1 ≠ 6 → p < (qT B n p).2.2.1 ∧ (qT B n p).2.2.1 ≤ n := by
    intro p hp h0 h6
    have hb := qT_b hS p hp
    have := hb.2.2.2.1 h0 h6
    exact ⟨by have := hb.1; omega, hb.2.2.1⟩
  refine (h (fun a l d p s o => Ps B n a l d p s o ∧ (p ≤ n → ∀ f, o = .inl f → p ≤ f.2)) ⟨?_, ?_, ?_, ?_, ?_, ?_, ?_, ?_, ?_, ?_, ?_, ?_, ?_, ?_, ?_⟩).2
  · intro d p h; exact ⟨Ps_num d p h, fun _ f hf => absurd hf (by simp)⟩
  · intro d p h; exact ⟨Ps_org d p h, fun _ f hf => absurd hf (by simp)⟩
  · intro d p h h2; exact ⟨Ps_nam d p h h2, fun _ f hf => absurd hf (by simp)⟩
  · intro d p h h2; exact ⟨Ps_res d p h h2, fun hp f hf => by rw [← Sum.inl.inj hf]; exact (qT_b hS p hp).1⟩
  · intro d p s o h hd h2
    exact ⟨Ps_una d p s o h hd h2.1, fun hp f hf => by have t := tk p hp (by omega) (by omega); have := h2.2 t.2 f hf; omega⟩
  · intro d p s f h hd h2
    exact ⟨Ps_brt d p s f h hd h2.1, fun hp f hf => by have t := tk p hp (by omega) (by omega); have := h2.2 t.2 f hf; omega⟩
  · intro d p s p' h hd h2 h3
    exact ⟨Ps_bra d p s p' h hd h2.1 h3, fun _ f hf => absurd hf (by simp)⟩
  · intro d p s p' h hd h2 h3
    refine ⟨Ps_brw d p s p' h hd h2.1 h3, fun hp f hf => ?_⟩
    have t := tk p hp (by omega) (by omega)
    have t2 := Ps_lt hS h2.1 t.2 p' rfl
    rw [← Sum.inl.inj hf]
    have := (qT_b hS p' t2.1).1
    show p ≤ (qT B n p').2.1
    omega
  · intro d p h hd; exact ⟨Ps_dep d p h hd, fun hp f hf => by rw [← Sum.inl.inj hf]; exact (qT_b hS p hp).1⟩
  · intro d p h; exact ⟨Ps_bad d p h, fun hp f hf => by rw [← Sum.inl.inj hf]; exact (qT_b hS p hp).1⟩
  · intro l d p s f h1 h6 h; exact ⟨Ps_lvt l d p s f h1 h6 h.1, fun hp f hf => h.2 hp f hf⟩
  · intro l d p s p' s' o h1 h6 h h2
    exact ⟨Ps_lv l d p s p' s' o h1 h6 h.1 h2.1, fun hp f hf => by have t := Ps_lt hS h.1 hp p' rfl; have := h2.2 t.1 f hf; omega⟩
  · intro s l d p h1 h6 h; exact ⟨Ps_stop s l d p h1 h6 h, fun _ f hf => absurd hf (by simp)⟩
  · intro s l d p s2 f h1 h6 h h2
    exact ⟨Ps_opt s l d p s2 f h1 h6 h h2.1, fun hp f hf => by have hk := qlv_k (k := (qT B n p).1) (by omega); have t := tk p hp hk.1 hk.2.1; have := h2.2 t.2 f hf; omega⟩
  · intro s l d p s2 p' s' o h1 h6 h h2 h3
    exact ⟨Ps_op s l d p s2 p' s' o h1 h6 h h2.1 h3.1, fun hp f hf => by have hk := qlv_k (k := (qT B n p).1) (by omega); have t := tk p hp hk.1 hk.2.1; have t2 := Ps_lt hS h2.1 t.2 p' rfl; have := h3.2 t2.1 f hf; omega⟩
def qid : List (Bool × Bool) → Bool
  | [] => true
  | x :: I => x.1 && qid I
def xIf : List (Bool × Bool) → fv_S → Prop
  | [], σ => fv_gw σ 27 0 = 1
  | x :: I, σ => fv_gw σ 27 (I.length + 1) = q01 (qid (x :: I)) ∧ fv_gw σ 29 (I.length + 1) = q01 (!(qid I)) ∧ fv_gw σ 28 (I.length + 1) = q01 x.2 ∧ xIf I σ
theorem xIf_c : ∀ (I : List (Bool × Bool)) (σ σ' : fv_S), (∀ i, i ≤ I.length → fv_gw σ' 27 i = fv_gw σ 27 i ∧ fv_gw σ' 28 i = fv_gw σ 28 i ∧ fv_gw σ' 29 i = fv_gw σ 29 i) → xIf I σ → xIf I σ' := by
  intro I
  induction I with
  | nil => intro σ σ' h hi; exact (h 0 (by simp)).1.trans hi
  | cons x I ih =>
    intro σ σ' h hi
    have h0 := h (I.length + 1) (by simp)
    exact ⟨h0.1.trans hi.1, h0.2.2.trans hi.2.1, h0.2.1.trans hi.2.2.1, ih σ σ' (fun i h' => h i (by simp; omega)) hi.2.2.2⟩
/-- not asked for a known number; in the first pass nothing is laid -/
def xQ4 (sec : Bool) (σ : fv_S) : Prop := fv_gi σ 1542 = 0 ∧ (sec = false → fv_gi σ 1546 = 0 ∧ fv_gi σ 1547 = 0)
theorem xQ4_c {sec : Bool} {σ σ' : fv_S} (h : xQ4 sec σ) (a : fv_gi σ' 1542 = fv_gi σ 1542) (b : sec = false → fv_gi σ' 1546 = fv_gi σ 1546 ∧ fv_gi σ' 1547 = fv_gi σ 1547) : xQ4 sec σ' := ⟨a.trans h.1, fun e => ⟨(b e).1.trans (h.2 e).1, (b e).2.trans (h.2 e).2⟩⟩
/-- the class within a line -/
def xZ (B : Nat → Nat) (n : Nat) (sec : Bool) (L : List (List Nat × Int32)) (h : Nat) (I : List (Bool × Bool)) (org : Nat) (σ : fv_S) : Prop := qX B n σ ∧ xL L σ ∧ fv_gi σ 1541 = q01 sec ∧ xQ4 sec σ ∧ fv_gi σ 1543 = Int32.ofNat h ∧ fv_gi σ 1565 = Int32.ofNat org ∧ fv_gi σ 1562 = 0 ∧ fv_gi σ 1559 = Int32.ofNat I.length ∧ xIf I σ
theorem xZ_f {B : Nat → Nat} {n : Nat} {sec : Bool} {L : List (List Nat × Int32)} {h : Nat} {I : List (Bool × Bool)} {org : Nat} {σ σ' : fv_S} (z : xZ B n sec L h I org σ) (f : xFx σ σ') (h2 : fv_gi σ' 1562 = 0) : xZ B n sec L h I org σ' := by
  have g : ∀ k, k = 1541 ∨ k = 1542 ∨ k = 1543 ∨ k = 1565 ∨ k = 1559 ∨ k = 1665 ∨ k = 2051 → fv_gi σ' k = fv_gi σ k := fun k hk => f.1 k (by omega) (by omega) (by omega) (by omega) (by omega) (by omega)
  obtain ⟨z1, z2, z3, z4, z5, z6, z7, z8, z9⟩ := z
  refine ⟨⟨(g 1665 (by omega)).trans z1.1, ?_⟩, ⟨(g 2051 (by omega)).trans z2.1, z2.2.1, ?_⟩, (g 1541 (by omega)).trans z3, xQ4_c z4 (g 1542 (by omega)) (fun _ => ⟨f.1 1546 (by omega) (by omega) (by omega) (by omega) (by omega) (by omega), f.1 1547 (by omega) (by omega) (by omega) (by omega) (by omega) (by omega)⟩), (g 1543 (by omega)).trans z5, (g 1565 (by omega)).trans z6, h2, (g 1559 (by omega)).trans z8, xIf_c I σ σ' (fun i _ => by show σ'.2.2.1 27 i = _ ∧ σ'.2.2.1 28 i = _ ∧ σ'.2.2.1 29 i = _; rw [f.2.2]; exact ⟨rfl, rfl, rfl⟩) z9⟩
  · show ∀ i, i < n → σ'.2.2.1 14 i = _ ∧ σ'.2.2.1 15 i = _
    rw [f.2.2]; exact z1.2
  · show ∀ i e, L[i]? = some e → e.1.length ≤ 12 ∧ σ'.2.2.1 18 i = _ ∧ σ'.2.2.1 19 i = _ ∧ ∀ j c, e.1[j]? = some c → σ'.2.2.1 17 (12 * i + j) = _ ∧ _
    rw [f.2.2]; exact z2.2.2
theorem xZ_g {B : Nat → Nat} {n : Nat} {sec : Bool} {L : List (List Nat × Int32)} {h : Nat} {I : List (Bool × Bool)} {org : Nat} {σ σ' : fv_S} (z : xZ B n sec L h I org σ) (f : qGx σ σ') : xZ B n sec L h I org σ' := xZ_f z (xFx_g f) ((f.1 1562 (by omega)).trans z.2.2.2.2.2.2.1)
def qen (L : List (List Nat × Int32)) (org : Nat) : qEv := (qlk L, Int32.ofNat org)
/-- an expression in a statement: with what was told before it in the line -/
def xEo (B : Nat → Nat) (n : Nat) (K : Bool) (q : Nat) (G g : Option (Nat × Nat)) (v : Int32) (o : qOu) (σ : fv_S) (out : Option fv_O) : Prop := match o with
  | .inr p' => ∃ w σ', out = fv_ri w σ' ∧ xFx σ σ' ∧ fv_n σ' = fv_n σ ∧ fv_gi σ' 1562 = 0 ∧ fv_gi σ' 1561 = Int32.ofNat q ∧ xAt B n p' σ' ∧ xR (qoe G (if K = true then g else none)) σ' ∧ (∀ f, qoe G (if K = true then g else none) = some f → f.2 < p') ∧ (K = true → (fv_gi σ' 1560 = 0 ↔ g ≠ none) ∧ (g = none → w = v))
  | .inl f => ∃ σ', out = fv_th (Int32.ofNat f.1) (Int32.ofNat f.2) σ' ∧ xFx σ σ' ∧ fv_n σ' = fv_n σ + 1 ∧ (1 ≤ f.1 ∧ f.1 ≤ 2 ∧ f.2 ≤ n) ∧ xR (qoe G (if K = true then g else none)) σ' ∧ (∀ h, qoe G (if K = true then g else none) = some h → h.2 < f.2)
theorem qto_oe {G g : Option (Nat × Nat)} {p : Nat} (hG : ∀ f, G = some f → f.2 < p) (hg : ∀ f, g = some f → p ≤ f.2) : qto G g = qoe G g := by
  cases g with
  | none => rw [qoe_n]; rfl
  | some f =>
    cases G with
    | none => rfl
    | some h =>
      show (if h.2 < f.2 ∨ _ then some h else some f) = some h
      rw [if_pos (Or.inl (by have := hG h rfl; have := hg f rfl; omega))]
theorem x_ex {B : Nat → Nat} {n N p : Nat} (hS : qS B n) (hN : 7000 ≤ N) {K : Bool} {L : List (List Nat × Int32)} {org : Nat} {σ : fv_S} (hX : qX B n σ) (hL : xL L σ) (h65 : fv_gi σ 1565 = Int32.ofNat org) (h62 : fv_gi σ 1562 = 0) (hK : K = true ↔ ¬ (fv_gi σ 1541 = 0 ∧ fv_gi σ 1542 = 0)) {G : Option (Nat × Nat)} (ha : xAt B n p σ) (hR : xR G σ) (hG : ∀ f, G = some f → f.2 < p) :
    xEo B n K (qT B n p).2.1 G ((qEX B n p).1 (qen L org)).1 ((qEX B n p).1 (qen L org)).2 (qEX B n p).2 σ (zX3_exp N σ) := by
  have hp := ha.1
  have R := x_expr hS hN (L := L) (K := K = true) (e := qen L org) (r := G) (σ := σ) (p := p) ⟨⟨hX, hL, rfl, h65, hK⟩, h62, ha, hR⟩
  have ge := qEX_ge hS hp (qen L org)
  have lt := Ps_lt hS (qEX_s hS hp) hp
  generalize hg : ((qEX B n p).1 (qen L org)).1 = g at R ge ⊢
  generalize ((qEX B n p).1 (qen L org)).2 = v at R ⊢
  generalize ho : (qEX B n p).2 = o at R lt ⊢
  have eo : qto G g = qoe G g := qto_oe hG (fun f hf => (ge f hf).1)
  cases o with
  | inr p' =>
    obtain ⟨w, σ', y1, y2, y3, y4, y5, y6, y7, y8⟩ := R
    have t := lt p' rfl
    refine ⟨w, σ', y1, y2, y3, y4, y5, y6, ?_, ?_, fun k => ⟨?_, y8 k⟩⟩
    · cases hk : K with
      | true => have := (y7.1 hk).2.1; rw [eo] at this; rw [if_pos rfl]; exact this
      | false => rw [if_neg (by decide), qoe_n]; exact (y7.2 (by rw [hk]; decide)).2
    · intro f hf
      cases hk : K with
      | true =>
        rw [hk, if_pos rfl] at hf
        cases G with
        | some h0 => have e := Option.some.inj hf; have := hG h0 rfl; rw [← e]; omega
        | none => exact (y7.1 hk).2.2 f hf
      | false => rw [hk, if_neg (by decide), qoe_n] at hf; have := hG f hf; omega
    · rw [(y7.1 k).1]
      cases g with
      | none => rw [if_pos rfl]; exact ⟨fun e => absurd e (by decide), fun e => absurd rfl e⟩
      | some f => rw [if_neg (by simp)]; exact ⟨fun _ => by simp, fun _ => rfl⟩
  | inl f =>
    obtain ⟨σ', y1, y2, y3, y4, y5, y6⟩ := R
    refine ⟨σ', y1, y2, y3, y4, ?_, ?_⟩
    · cases hk : K with
      | true => have := (y5 hk).1; rw [eo] at this; rw [if_pos rfl]; exact this
      | false => rw [if_neg (by decide), qoe_n]; exact y6 (by rw [hk]; decide)
    · intro h hh
      have tp := Ps_tp hS (qEX_s hS hp) hp
      rw [ho] at tp
      have tp := tp f rfl
      cases hk : K with
      | true =>
        rw [hk, if_pos rfl] at hh
        cases G with
        | some h0 => have e := Option.some.inj hh; have := hG h0 rfl; rw [← e]; omega
        | none => exact (y5 hk).2 h hh
      | false => rw [hk, if_neg (by decide), qoe_n] at hh; have := hG h hh; omega
