set_option maxRecDepth 100000
set_option maxHeartbeats 4000000
/-! The plain law: statements: what they leave alone, how they end; an expression that must be known. -/
theorem Ps_st {B : Nat → Nat} {n : Nat} (hS : qS B n) {a : Option qSm} {l d p : Nat} {s : qSm} {o : qOu} (h : Ps B n a l d p s o) : a = none → p ≤ n → ∀ p', o = .inr p' → (qT B n p).2.1 < p' := by
  have tk : ∀ p, p ≤ n → (qT B n p).1 ≠ 0 → (qT B n p).1 ≠ 6 → (qT B n p).2.1 < (qT B n p).2.2.1 ∧ (qT B n p).2.2.1 ≤ n := by
    intro p hp h0 h6
    have hb := qT_b hS p hp
    exact ⟨hb.2.2.2.1 h0 h6, hb.2.2.1⟩
  refine (h (fun a l d p s o => Ps B n a l d p s o ∧ (a = none → p ≤ n → ∀ p', o = .inr p' → (qT B n p).2.1 < p')) ⟨?_, ?_, ?_, ?_, ?_, ?_, ?_, ?_, ?_, ?_, ?_, ?_, ?_, ?_, ?_⟩).2
  · intro d p h; exact ⟨Ps_num d p h, fun _ hp p' e => by have := tk p hp (by omega) (by omega); have := Sum.inr.inj e; omega⟩
  · intro d p h; exact ⟨Ps_org d p h, fun _ hp p' e => by have := tk p hp (by omega) (by omega); have := Sum.inr.inj e; omega⟩
  · intro d p h h2; exact ⟨Ps_nam d p h h2, fun _ hp p' e => by have := tk p hp (by omega) (by omega); have := Sum.inr.inj e; omega⟩
  · intro d p h h2; exact ⟨Ps_res d p h h2, fun _ hp p' e => absurd e (by simp)⟩
  · intro d p s o h hd h2
    exact ⟨Ps_una d p s o h hd h2.1, fun _ hp p' e => by have t := tk p hp (by omega) (by omega); have := Ps_lt hS h2.1 t.2 p' e; omega⟩
  · intro d p s f h hd h2
    exact ⟨Ps_brt d p s f h hd h2.1, fun _ hp p' e => absurd e (by simp)⟩
  · intro d p s p1 h hd h2 h3
    refine ⟨Ps_bra d p s p1 h hd h2.1 h3, fun _ hp p' e => ?_⟩
    have t := tk p hp (by omega) (by omega)
    have t1 := Ps_lt hS h2.1 t.2 p1 rfl
    have hb := qT_b hS p1 t1.1
    have := hb.1
    have t2 := tk p1 t1.1 (by omega) (by omega)
    have := Sum.inr.inj e
    omega
  · intro d p s p1 h hd h2 h3
    exact ⟨Ps_brw d p s p1 h hd h2.1 h3, fun _ hp p' e => absurd e (by simp)⟩
  · intro d p h hd; exact ⟨Ps_dep d p h hd, fun _ hp p' e => absurd e (by simp)⟩
  · intro d p h; exact ⟨Ps_bad d p h, fun _ hp p' e => absurd e (by simp)⟩
  · intro l d p s f h1 h6 h; exact ⟨Ps_lvt l d p s f h1 h6 h.1, fun _ hp p' e => absurd e (by simp)⟩
  · intro l d p s p1 s' o h1 h6 h h2
    exact ⟨Ps_lv l d p s p1 s' o h1 h6 h.1 h2.1, fun _ hp p' e => by have t := h.2 rfl hp p1 rfl; have t1 := Ps_lt hS h.1 hp p1 rfl; have := Ps_lt hS h2.1 t1.1 p' e; omega⟩
  · intro s l d p h1 h6 h; exact ⟨Ps_stop s l d p h1 h6 h, fun e => absurd e (by simp)⟩
  · intro s l d p s2 f h1 h6 h h2; exact ⟨Ps_opt s l d p s2 f h1 h6 h h2.1, fun e => absurd e (by simp)⟩
  · intro s l d p s2 p1 s' o h1 h6 h h2 h3; exact ⟨Ps_op s l d p s2 p1 s' o h1 h6 h h2.1 h3.1, fun e => absurd e (by simp)⟩
/-- what the class's assembler leaves alone -/
def xFo (σ σ' : fv_S) : Prop := (∀ k, (k < 1541 ∨ 1565 < k ∨ k = 1544) → (k < 1667 ∨ 1672 < k) → k ≠ 2051 → fv_gi σ' k = fv_gi σ k) ∧ (σ'.2.1 = σ.2.1 ∧ xB17 σ σ') ∧ (∀ a, a < 15 ∨ 29 < a → fv_gw σ' a = fv_gw σ a)
theorem xFo_r (σ : fv_S) : xFo σ σ := ⟨fun _ _ _ _ => rfl, ⟨rfl, fun b => b⟩, fun _ _ => rfl⟩
theorem xFo_t {a b c : fv_S} (h : xFo a b) (g : xFo b c) : xFo a c := ⟨fun k h1 h2 h3 => (g.1 k h1 h2 h3).trans (h.1 k h1 h2 h3), ⟨g.2.1.1.trans h.2.1.1, xB17_t h.2.1.2 g.2.1.2⟩, fun k hk => (g.2.2 k hk).trans (h.2.2 k hk)⟩
theorem xFo_x {a b : fv_S} (h : xFx a b) : xFo a b := ⟨fun k h1 h2 _ => h.1 k (by omega) (by omega) (by omega) (by omega) (by omega) h2, ⟨h.2.1, xB17_e (by show b.2.2.1 17 = _; rw [h.2.2])⟩, fun k _ => by show b.2.2.1 k = _; rw [h.2.2]⟩
theorem xFo_g {a b : fv_S} (h : qGx a b) : xFo a b := xFo_x (xFx_g h)
theorem xFo_si {a b : fv_S} (h : xFo a b) (k : Nat) (v : Int32) (hk : 1541 ≤ k ∧ k ≤ 1565 ∧ k ≠ 1544 ∨ 1667 ≤ k ∧ k ≤ 1672 ∨ k = 2051) : xFo a (fv_si b k v) := ⟨fun j h1 h2 h3 => (if_neg (show j ≠ k by omega)).trans (h.1 j h1 h2 h3), ⟨h.2.1.1, h.2.1.2⟩, h.2.2⟩
theorem xFo_sa {a b : fv_S} (h : xFo a b) (k : Nat) (i v : Int32) (hk : 18 ≤ k ∧ k ≤ 29) : xFo a (fv_sa b k i v) := ⟨h.1, ⟨h.2.1.1, xB17_t h.2.1.2 (xB17_e (s_an _ _ _ _ _ (by omega)))⟩, fun x hx => (s_an _ _ _ _ _ (by omega)).trans (h.2.2 x hx)⟩
theorem xFo_sc {a b : fv_S} (h : xFo a b) : xFo a (fv_sc b) := ⟨h.1, ⟨h.2.1.1, h.2.1.2⟩, h.2.2⟩
theorem xFo_l {a b c : fv_S} (h : xFo a b) (g : xFl b c) : xFo a c := ⟨fun k h1 h2 h3 => (g.1 k h3).trans (h.1 k h1 h2 h3), ⟨g.2.1.1.trans h.2.1.1, xB17_t h.2.1.2 g.2.1.2⟩, fun k hk => (g.2.2.1 k (by omega) (by omega) (by omega)).trans (h.2.2 k hk)⟩
/-- how a statement ends in the class: G was told, o is the outcome -/
def xSo (B : Nat → Nat) (n : Nat) (G : Option (Nat × Nat)) (o : qOu) (post : fv_S → Prop) (σ : fv_S) (out : Option fv_O) : Prop := match o with
  | .inr p' => ∃ σ', out = fv_rv σ' ∧ fv_n σ' = fv_n σ ∧ xFo σ σ' ∧ fv_gi σ' 1548 = fv_gi σ 1548 ∧ qX B n σ' ∧ xAt B n p' σ' ∧ xR G σ' ∧ (∀ f, G = some f → f.2 < p') ∧ (G = none → post σ') ∧ (G ≠ none → fv_gi σ' 1543 ≤ 65536)
  | .inl f => ∃ σ', out = fv_th (Int32.ofNat f.1) (Int32.ofNat f.2) σ' ∧ fv_n σ' = fv_n σ + 1 ∧ xFo σ σ' ∧ (1 ≤ f.1 ∧ f.1 ≤ 9 ∧ f.2 ≤ 6000) ∧ xR G σ' ∧ (∀ g, G = some g → qtm (some g) f = some g)
theorem qtm_lt {g f : Nat × Nat} (h : g.2 < f.2) : qtm (some g) f = some g := by
  show (if g.2 < f.2 ∨ _ then some g else some f) = some g
  rw [if_pos (Or.inl h)]
theorem xSo_t {B : Nat → Nat} {n : Nat} {G : Option (Nat × Nat)} {o : qOu} {post : fv_S → Prop} {σ0 σ : fv_S} {out : Option fv_O} (f : xFo σ0 σ) (fn : fv_n σ = fv_n σ0) (fw : fv_gi σ 1548 = fv_gi σ0 1548) (h : xSo B n G o post σ out) : xSo B n G o post σ0 out := by
  cases o with
  | inr p' => obtain ⟨σ', h1, h2, h3, h4, h5⟩ := h; exact ⟨σ', h1, h2.trans fn, xFo_t f h3, h4.trans fw, h5⟩
  | inl g => obtain ⟨σ', h1, h2, h3, h4⟩ := h; exact ⟨σ', h1, h2.trans (by rw [fn]), xFo_t f h3, h4⟩
/-- a fault that is thrown with nothing told -/
theorem xSo_th {B : Nat → Nat} {n : Nat} {post : fv_S → Prop} {σ σ' : fv_S} (f : Nat × Nat) (h1 : fv_n σ' = fv_n σ) (h2 : xFo σ σ') (h3 : 1 ≤ f.1 ∧ f.1 ≤ 9 ∧ f.2 ≤ 6000) (h4 : xR none σ') : xSo B n none (.inl f) post σ (fv_th (Int32.ofNat f.1) (Int32.ofNat f.2) (fv_sc σ')) :=
  ⟨fv_sc σ', rfl, by show fv_n σ' + 1 = _; rw [h1], xFo_sc h2, h3, h4, fun g hg => absurd hg (by simp)⟩
theorem l_i32 (a b : Int32) : Int32.toInt64 a < Int32.toInt64 b ↔ a < b := by
  rw [Int64.lt_iff_toInt_lt, Int32.toInt_toInt64, Int32.toInt_toInt64, Int32.lt_iff_toInt_lt]
theorem l_lt0 (a b : Int64) : lg_cmp a b < (0 : Int32) ↔ a < b := by
  unfold lg_cmp
  by_cases c : b < a
  · rw [if_pos c]
    refine ⟨fun e => absurd e (by decide), fun e => ?_⟩
    rw [Int64.lt_iff_toInt_lt] at c e; omega
  · rw [if_neg c]
    by_cases d : a = b
    · rw [if_pos d]; subst d; exact ⟨fun e => absurd e (by decide), fun e => absurd e c⟩
    · rw [if_neg d]
      refine ⟨fun _ => ?_, fun _ => by decide⟩
      rw [Int64.lt_iff_toInt_lt] at c ⊢
      have : a.toInt ≠ b.toInt := fun e => d (Int64.toInt_inj.1 e)
      omega
/-- a number lies between two -/
def qin (v a b : Int32) : Bool := decide (a ≤ v ∧ v ≤ b)
theorem x_isin (v a b : Int32) (σ : fv_S) : zX0_isIn (Int32.toInt64 v) (Int32.toInt64 a) (Int32.toInt64 b) σ = fv_ri (q01 (qin v a b)) σ := by
  unfold zX0_isIn qin
  by_cases c1 : v < a
  · rw [if_pos ((l_lt0 _ _).2 ((l_i32 _ _).2 c1)), decide_eq_false (fun h => by rw [p_lt] at c1; have := (p_le a v).1 h.1; omega)]; rfl
  · rw [if_neg (fun h => c1 ((l_i32 _ _).1 ((l_lt0 _ _).1 h)))]
    by_cases c2 : b < v
    · rw [if_pos ((l_gt _ _).2 ((l_i32 _ _).2 c2)), decide_eq_false (fun h => by rw [p_lt] at c2; have := (p_le v b).1 h.2; omega)]; rfl
    · rw [if_neg (fun h => c2 ((l_i32 _ _).1 ((l_gt _ _).1 h))), decide_eq_true (show a ≤ v ∧ v ≤ b by
        rw [p_le, p_le]; rw [p_lt] at c1 c2; omega)]; rfl
/-- what is told of an expression that must be known and lie between two numbers -/
def qkg (g : Option (Nat × Nat)) (v : Int32) (o : qOu) (a b : Int32) (q : Nat) : Option (Nat × Nat) := match o with
  | .inl _ => g
  | .inr _ => qoe g (if qin v a b = true then none else some (5, q))
def xKo (B : Nat → Nat) (n q : Nat) (G : Option (Nat × Nat)) (v : Int32) (o : qOu) (σ : fv_S) (out : Option fv_O) : Prop := match o with
  | .inr p' => ∃ w σ', out = fv_ri w σ' ∧ xFx σ σ' ∧ fv_n σ' = fv_n σ ∧ fv_gi σ' 1562 = 0 ∧ xAt B n p' σ' ∧ xR G σ' ∧ (∀ f, G = some f → f.2 < p') ∧ (G = none → w = v)
  | .inl f => ∃ σ', out = fv_th (Int32.ofNat f.1) (Int32.ofNat f.2) σ' ∧ xFo σ σ' ∧ fv_n σ' = fv_n σ + 1 ∧ (1 ≤ f.1 ∧ f.1 ≤ 2 ∧ f.2 ≤ n) ∧ xR G σ' ∧ (∀ h, G = some h → h.2 < f.2)
theorem x_kx {B : Nat → Nat} {n N p : Nat} (hS : qS B n) (hN : 7000 ≤ N) {sec : Bool} {L : List (List Nat × Int32)} {h : Nat} {I : List (Bool × Bool)} {org : Nat} {σ : fv_S} (z : xZ B n sec L h I org σ) (ha : xAt B n p σ) (hR : xR none σ) (a b : Int32) :
    xKo B n (qT B n p).2.1 (qkg ((qEX B n p).1 (qen L org)).1 ((qEX B n p).1 (qen L org)).2 (qEX B n p).2 a b (qT B n p).2.1) ((qEX B n p).1 (qen L org)).2 (qEX B n p).2 σ (zX3_knownExp N a b σ) := by
  have hn := hS.1
  have hp := ha.1
  have hb := qT_b hS p hp
  have lt := Ps_lt hS (qEX_s hS hp) hp
  have f0 : ∀ k, k ≠ 1542 → fv_gi (fv_si σ 1542 1) k = fv_gi σ k := fun k hk => if_neg hk
  have R := x_ex hS hN (K := true) (L := L) (org := org) (σ := fv_si σ 1542 1) (p := p) (G := none) ⟨z.1.1, z.1.2⟩ ⟨z.2.1.1, z.2.1.2⟩ z.2.2.2.2.2.1 z.2.2.2.2.2.2.1 ⟨fun _ h => absurd h.2 (by show ¬ (1 : Int32) = 0; decide), fun _ => rfl⟩ ⟨hp, ha.2⟩ hR (fun f hf => absurd hf (by simp))
  unfold zX3_knownExp
  generalize ((qEX B n p).1 (qen L org)).1 = g at R ⊢
  generalize ((qEX B n p).1 (qen L org)).2 = v at R ⊢
  generalize ho : (qEX B n p).2 = o at R lt ⊢
  have e0 : qoe none (if (true : Bool) = true then g else none) = g := by rw [if_pos rfl]; rfl
  cases o with
  | inl f =>
    obtain ⟨σ', y1, y2, y3, y4, y5, y6⟩ := R
    rw [e0] at y5 y6
    rw [y1, fv_bi_th]
    exact ⟨σ', rfl, xFo_t (xFo_si (xFo_r σ) 1542 1 (by omega)) (xFo_x y2), y3, y4, y5, y6⟩
  | inr p' =>
    obtain ⟨w, σ', y1, y2, y3, y4, y5, y6, y7, y8, y9⟩ := R
    rw [e0] at y7 y8
    obtain ⟨k1, k2⟩ := y9 rfl
    have t := lt p' rfl
    have ff : xFx σ (fv_si σ' 1542 0) := by
      refine ⟨fun k h1 h2 h3 h4 h5 h6 => ?_, y2.2.1, y2.2.2⟩
      by_cases c : k = 1542
      · subst c; exact z.2.2.2.1.1.symm
      · exact (if_neg c).trans ((y2.1 k h1 h2 h3 h4 h5 h6).trans (f0 k c))
    rw [y1, fv_bi_ri]
    show ∃ w σ', _ ∧ _
    by_cases c : fv_gi σ' 1560 = 0
    · rw [if_pos c]
      have hg := k1.1 c
      have eg : qoe g (if qin v a b = true then none else some (5, (qT B n p).2.1)) = g := by
        cases g with
        | none => exact absurd rfl hg
        | some f => rfl
      refine ⟨w, fv_si σ' 1542 0, rfl, ff, y3, y4, y6, ?_, ?_, ?_⟩
      · show xR (qoe g _) _; rw [eg]; exact xR_c y7 rfl rfl
      · show ∀ f, qoe g _ = some f → _; rw [eg]; exact y8
      · intro h0; have h0' : qoe g _ = none := h0; rw [eg] at h0'; exact absurd h0' hg
    · have hg : g = none := by
        cases g with
        | none => rfl
        | some f => exact absurd (k1.2 (by simp)) c
      subst hg
      rw [if_neg c, x_isin, fv_bi_ri, k2 rfl]
      show ∃ w' σ'', (if ¬ q01 (qin v a b) = 0 then _ else _) = fv_ri w' σ'' ∧ _ ∧ _ ∧ _ ∧ _ ∧ xR (if qin v a b = true then none else some (5, (qT B n p).2.1)) σ'' ∧ (∀ f, (if qin v a b = true then none else some (5, (qT B n p).2.1)) = some f → f.2 < p') ∧ ((if qin v a b = true then none else some (5, (qT B n p).2.1)) = none → w' = v)
      cases hi : qin v a b with
      | true =>
        rw [if_pos (show ¬ q01 true = 0 by decide), if_pos rfl]
        exact ⟨v, fv_si σ' 1542 0, rfl, ff, y3, y4, y6, xR_c y7 rfl rfl, fun f hf => absurd hf (by simp), fun _ => rfl⟩
      | false =>
        rw [if_neg (show ¬ ¬ q01 false = 0 by decide), if_neg (by decide)]
        have r0 : xR none (fv_si σ' 1542 0) := xR_c y7 rfl rfl
        obtain ⟨σ4, x4, r4, f4, f4'⟩ := x_tell r0 (5, (qT B n p).2.1) (by show 1 ≤ 5; omega) (by show 5 ≤ 9; omega) (by show (qT B n p).2.1 ≤ 6000; have := hb.2.1; omega)
        rw [show fv_gi (fv_si σ' 1542 0) 1561 = Int32.ofNat (qT B n p).2.1 from y5, show zX3_tellFault 5 (Int32.ofNat (qT B n p).2.1) (fv_si σ' 1542 0) = _ from x4, fv_bv_rv]
        have tt := fun j (h3 : j ≠ 1563) (h4 : j ≠ 1564) => f4 j h3 h4
        refine ⟨v, σ4, rfl, xFx_t ff (xFx_tl f4 f4'), (show fv_n σ4 = fv_n σ by show σ4.2.2.2 = _; rw [f4']; exact y3), (tt 1562 (by omega) (by omega)).trans y4, ?_, r4, ?_, fun h0 => absurd h0 (by simp)⟩
        · refine ⟨y6.1, ?_⟩
          rcases y6.2 with ⟨b1, b2⟩ | b'
          · exact Or.inl ⟨(tt 1668 (by omega) (by omega)).trans b1, (tt 1667 (by omega) (by omega)).trans b2⟩
          · exact Or.inr ⟨(tt 1668 (by omega) (by omega)).trans b'.1, (tt 1669 (by omega) (by omega)).trans b'.2.1, (tt 1670 (by omega) (by omega)).trans b'.2.2.1, fun x y => (tt 1671 (by omega) (by omega)).trans (b'.2.2.2.1 x y), fun x => (tt 1667 (by omega) (by omega)).trans (b'.2.2.2.2.1 x), fun x => (tt 1672 (by omega) (by omega)).trans (b'.2.2.2.2.2 x)⟩
        · intro f hf
          have := Option.some.inj hf
          rw [← this]
          exact Ps_st hS (qEX_s hS hp) rfl hp p' ho
