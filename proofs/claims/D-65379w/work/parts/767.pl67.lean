set_option maxRecDepth 100000
set_option maxHeartbeats 4000000
/-! The plain law: statements of the model: how they end; ORG, IF, ELSE, ENDIF, EQU. -/
/-- what the model's assembler leaves alone -/
def mFo (τ τ' : fv_S) : Prop := (∀ k, k ≤ 1 ∨ k = 41 ∨ (46 ≤ k ∧ k ≤ 54) ∨ 58 ≤ k → fv_gi τ' k = fv_gi τ k) ∧ (∀ k, k ≠ 7 → fv_gl τ' k = fv_gl τ k) ∧ (∀ a, a ≤ 1 ∨ a = 13 ∨ 17 ≤ a → fv_gw τ' a = fv_gw τ a) ∧ fv_n τ' = fv_n τ
theorem mFo_r (τ : fv_S) : mFo τ τ := ⟨fun _ _ => rfl, fun _ _ => rfl, fun _ _ => rfl, rfl⟩
theorem mFo_t {a b c : fv_S} (h : mFo a b) (g : mFo b c) : mFo a c := ⟨fun k hk => (g.1 k hk).trans (h.1 k hk), fun k hk => (g.2.1 k hk).trans (h.2.1 k hk), fun k hk => (g.2.2.1 k hk).trans (h.2.2.1 k hk), g.2.2.2.trans h.2.2.2⟩
theorem mFo_e {a b : fv_S} (h : mFe a b) : mFo a b := ⟨fun k hk => h.1 k (by omega) (by omega) (by omega) (by omega) (by omega) (by omega) (by omega), h.2.1, fun k hk => h.2.2.1 k (by omega) (by omega) (by omega), h.2.2.2⟩
theorem mFo_q {a b : fv_S} (h : qFt a b) : mFo a b := mFo_e (mFe_q h)
theorem mFo_si {a b : fv_S} (h : mFo a b) (k : Nat) (v : Int32) (hk : 2 ≤ k ∧ k ≤ 57 ∧ k ≠ 41 ∧ ¬ (46 ≤ k ∧ k ≤ 54)) : mFo a (fv_si b k v) := ⟨fun j hj => (if_neg (show j ≠ k by omega)).trans (h.1 j hj), h.2.1, h.2.2.1, h.2.2.2⟩
theorem mFo_sa {a b : fv_S} (h : mFo a b) (k : Nat) (i v : Int32) (hk : 2 ≤ k ∧ k ≤ 16 ∧ k ≠ 13) : mFo a (fv_sa b k i v) := ⟨h.1, h.2.1, fun x hx => (s_an _ _ _ _ _ (by omega)).trans (h.2.2.1 x hx), h.2.2.2⟩
theorem mFo_l {a b c : fv_S} (h : mFo a b) (g : mFl b c) : mFo a c := ⟨fun k hk => (g.1 k (by omega)).trans (h.1 k hk), fun k hk => (by show c.2.1 k = b.2.1 k; rw [g.2.1] : fv_gl c k = fv_gl b k).trans (h.2.1 k hk), fun k hk => (g.2.2.1 k (by omega) (by omega) (by omega)).trans (h.2.2.1 k hk), g.2.2.2.trans h.2.2.2⟩
def mFx (f : Nat × Nat) (τ : fv_S) (o : Option fv_O) : Prop := ∃ τ', o = fv_ri 0 τ' ∧ fv_gi τ' 8 = Int32.ofNat f.1 ∧ fv_gi τ' 9 = Int32.ofNat f.2 ∧ (1 ≤ f.1 ∧ f.1 ≤ 9) ∧ mFo τ τ'
theorem mFx_f {f : Nat × Nat} {τ : fv_S} {o : Option fv_O} (h : mFt f τ o) : mFx f τ o := by
  obtain ⟨τ', h1, h2, h3, h4, h5⟩ := h; exact ⟨τ', h1, h2, h3, h4, mFo_e h5⟩
theorem mFx_t {f : Nat × Nat} {τ0 τ : fv_S} {o : Option fv_O} (g : mFo τ0 τ) (h : mFx f τ o) : mFx f τ0 o := by
  obtain ⟨τ', h1, h2, h3, h4, h5⟩ := h; exact ⟨τ', h1, h2, h3, h4, mFo_t g h5⟩
theorem mFx_b {f : Nat × Nat} {τ : fv_S} {o : Option fv_O} (h : mFx f τ o) : mFx f τ (fv_bi o (fun r s => if r = 0 ∨ r = 1 then fv_ri r s else none) fv_no) := by
  obtain ⟨τ', h1, h2⟩ := h
  rw [h1, fv_bi_ri, if_pos (Or.inl rfl)]; exact ⟨τ', rfl, h2⟩
theorem mFx_w {τ : fv_S} (h : fv_gi τ 8 = 0) (f : Nat × Nat) (hf : 1 ≤ f.1 ∧ f.1 ≤ 9) : mFx f τ (fv_bi (zX8_wrong (Int32.ofNat f.1) (Int32.ofNat f.2) τ) (fun r s => if r = 0 ∨ r = 1 then fv_ri r s else none) fv_no) := mFx_b (mFx_f (mFt_w h f hf))
theorem mFx_n {f : Nat × Nat} {τ : fv_S} {o : Option fv_O} (h : mFx f τ o) (k : Int32 → fv_S → Option fv_O) : mFx f τ (fv_bi o (fun r s => if ¬ r = 0 then k r s else fv_ri 0 s) fv_no) := by
  obtain ⟨τ', h1, h2⟩ := h
  rw [h1, fv_bi_ri, if_neg (not_not_intro rfl)]; exact ⟨τ', rfl, h2⟩
/-- the line's fault -/
def qLF (B : Nat → Nat) (n : Nat) (G : Option (Nat × Nat)) (o : qOu) (h' q : Nat) : Option (Nat × Nat) := match G with
  | some g => some g
  | none => match o with
    | .inl f => some f
    | .inr p' => if (qT B n p').1 = 0 then (if 65536 < h' then some (8, q) else none) else some (qwr (qT B n p'), (qT B n p').2.1)
def mSo (B : Nat → Nat) (n : Nat) (F : Option (Nat × Nat)) (o : qOu) (post : fv_S → Prop) (τ : fv_S) (out : Option fv_O) : Prop := match F with
  | some f => mFx f τ out
  | none => ∃ p' τ', o = .inr p' ∧ (qT B n p').1 = 0 ∧ p' ≤ n ∧ out = fv_ri 1 τ' ∧ mFo τ τ' ∧ fv_gi τ' 2 = Int32.ofNat (qT B n p').2.2.1 ∧ post τ'
theorem mSo_t {B : Nat → Nat} {n : Nat} {F : Option (Nat × Nat)} {o : qOu} {post : fv_S → Prop} {τ0 τ : fv_S} {out : Option fv_O} (f : mFo τ0 τ) (h : mSo B n F o post τ out) : mSo B n F o post τ0 out := by
  cases F with
  | some g => exact mFx_t f h
  | none => obtain ⟨p', τ', h1, h2, h3, h4, h5, h6⟩ := h; exact ⟨p', τ', h1, h2, h3, h4, mFo_t f h5, h6⟩
theorem mSo_b {B : Nat → Nat} {n : Nat} {F : Option (Nat × Nat)} {o : qOu} {post : fv_S → Prop} {τ : fv_S} {out : Option fv_O} (h : mSo B n F o post τ out) : mSo B n F o post τ (fv_bi out (fun r s => if r = 0 ∨ r = 1 then fv_ri r s else none) fv_no) := by
  cases F with
  | some g => exact mFx_b h
  | none => obtain ⟨p', τ', h1, h2, h3, h4, h5⟩ := h; rw [h4, fv_bi_ri, if_pos (Or.inr rfl)]; exact ⟨p', τ', h1, h2, h3, rfl, h5⟩
def mIf : List (Bool × Bool) → fv_S → Prop
  | [], _ => True
  | x :: I, τ => fv_gw τ 15 I.length = q01 x.1 ∧ fv_gw τ 16 I.length = q01 x.2 ∧ mIf I τ
theorem mIf_c : ∀ (I : List (Bool × Bool)) (τ τ' : fv_S), (∀ i, i < I.length → fv_gw τ' 15 i = fv_gw τ 15 i ∧ fv_gw τ' 16 i = fv_gw τ 16 i) → mIf I τ → mIf I τ' := by
  intro I
  induction I with
  | nil => intro _ _ _ _; exact trivial
  | cons x I ih =>
    intro τ τ' h hi
    have h0 := h I.length (by simp)
    exact ⟨h0.1.trans hi.1, h0.2.trans hi.2.1, ih τ τ' (fun i h' => h i (by simp; omega)) hi.2.2⟩
/-- the model within a line -/
def mZ (B : Nat → Nat) (n : Nat) (sec : Bool) (L : List (List Nat × Int32)) (h : Nat) (I : List (Bool × Bool)) (org : Nat) (τ : fv_S) : Prop := qM B n τ ∧ mL L τ ∧ fv_gi τ 42 = q01 sec ∧ fv_gi τ 20 = Int32.ofNat h ∧ fv_gi τ 21 = Int32.ofNat org ∧ fv_gi τ 8 = 0 ∧ fv_gi τ 45 = Int32.ofNat I.length ∧ mIf I τ
theorem mZ_e {B : Nat → Nat} {n : Nat} {sec : Bool} {L : List (List Nat × Int32)} {h : Nat} {I : List (Bool × Bool)} {org : Nat} {τ τ' : fv_S} (z : mZ B n sec L h I org τ) (f : mFe τ τ') (h8 : fv_gi τ' 8 = 0) : mZ B n sec L h I org τ' := by
  have g : ∀ k, k = 42 ∨ k = 20 ∨ k = 21 ∨ k = 45 → fv_gi τ' k = fv_gi τ k := fun k hk => f.1 k (by omega) (by omega) (by omega) (by omega) (by omega) (by omega) (by omega)
  obtain ⟨z1, z2, z3, z4, z5, z6, z7, z8⟩ := z
  exact ⟨qM_s z1 f, mL_s z2 f, (g 42 (by omega)).trans z3, (g 20 (by omega)).trans z4, (g 21 (by omega)).trans z5, h8, (g 45 (by omega)).trans z7, mIf_c I τ τ' (fun i _ => by rw [f.2.2.1 15 (by omega) (by omega) (by omega), f.2.2.1 16 (by omega) (by omega) (by omega)]; exact ⟨rfl, rfl⟩) z8⟩
theorem mZ_q {B : Nat → Nat} {n : Nat} {sec : Bool} {L : List (List Nat × Int32)} {h : Nat} {I : List (Bool × Bool)} {org : Nat} {τ τ' : fv_S} (z : mZ B n sec L h I org τ) (f : qFt τ τ') : mZ B n sec L h I org τ' := mZ_e z (mFe_q f) ((f.1 8 (by omega)).trans z.2.2.2.2.2.1)
def mMs (τ τ' : fv_S) : Prop := fv_gw τ' 14 = fv_gw τ 14 ∧ fv_gi τ' 39 = fv_gi τ 39 ∧ fv_gi τ' 40 = fv_gi τ 40
theorem mMs_t {a b c : fv_S} (h : mMs a b) (g : mMs b c) : mMs a c := ⟨g.1.trans h.1, g.2.1.trans h.2.1, g.2.2.trans h.2.2⟩
theorem mMs_e {a b : fv_S} (h : mFe a b) : mMs a b := ⟨h.2.2.1 14 (by omega) (by omega) (by omega), h.1 39 (by omega) (by omega) (by omega) (by omega) (by omega) (by omega) (by omega), h.1 40 (by omega) (by omega) (by omega) (by omega) (by omega) (by omega) (by omega)⟩
theorem m_kx {B : Nat → Nat} {n N p : Nat} (hS : qS B n) (hN : 7000 ≤ N) {sec : Bool} {L : List (List Nat × Int32)} {h : Nat} {I : List (Bool × Bool)} {org : Nat} {τ : fv_S} (z : mZ B n sec L h I org τ) (hp : p ≤ n) (k : qMt B (qT B n p) τ) :
    (∀ f, ((qEX B n p).1 (qen L org)).1 = some f → mFx f τ (zX8_expression N 1 τ)) ∧ (((qEX B n p).1 (qen L org)).1 = none → ∀ f, (qEX B n p).2 = .inl f → mFx f τ (zX8_expression N 1 τ)) ∧
    (((qEX B n p).1 (qen L org)).1 = none → ∀ p', (qEX B n p).2 = .inr p' → ∃ τ', zX8_expression N 1 τ = fv_ri 1 τ' ∧ mFe τ τ' ∧ qMt B (qT B n p') τ' ∧ mZ B n sec L h I org τ' ∧ p' ≤ n ∧ fv_gi τ' 22 = ((qEX B n p).1 (qen L org)).2) := by
  have R := m_exp (N := N) hS hN true (L := L) (e := qen L org) (p := p) (τ := τ) ⟨z.1, z.2.1, rfl, z.2.2.2.2.1, k, z.2.2.2.2.2.1, hp⟩
  rw [show q01 true = 1 from rfl] at R
  generalize (qEX B n p).1 = s at R ⊢
  generalize (qEX B n p).2 = o at R ⊢
  refine ⟨fun f hf => ?_, fun hg f ho => ?_, fun hg p' ho => ?_⟩
  · cases o with
    | inl f' =>
      have R : mFt (mFl1 true (qen L org) s f') τ _ := R
      unfold mFl1 at R
      rw [if_pos rfl, hf] at R
      exact mFx_f R
    | inr p' =>
      rcases R with ⟨_, f', hf', hF⟩ | ⟨τ', _, _, _, _, _, h6⟩
      · rw [hf] at hf'; rw [Option.some.inj hf']; exact mFx_f hF
      · rw [(h6 rfl).1] at hf; exact absurd hf (by simp)
  · subst ho
    have R : mFt (mFl1 true (qen L org) s f) τ _ := R
    unfold mFl1 at R
    rw [if_pos rfl, hg] at R
    exact mFx_f R
  · subst ho
    rcases R with ⟨_, f', hf', _⟩ | ⟨τ', h1, h2, h3, h4, h5, h6⟩
    · rw [hg] at hf'; exact absurd hf' (by simp)
    · exact ⟨τ', h1, h2, h3, mZ_e z h2 h4, h5, (h6 rfl).2⟩
/-- a statement that ends, or does not, where the line ends -/
theorem m_fin {B : Nat → Nat} {n p' : Nat} {post : fv_S → Prop} {τ τ1 : fv_S} (f : mFo τ τ1) (hp : p' ≤ n) (k : qMt B (qT B n p') τ1) (h8 : fv_gi τ1 8 = 0) (h' q : Nat) (hh : h' ≤ 65536) (O : Option fv_O) (hO : (qT B n p').1 = 0 → ∃ τ2, O = fv_ri 1 τ2 ∧ mFo τ τ2 ∧ fv_gi τ2 2 = fv_gi τ1 2 ∧ post τ2) : mSo B n (qLF B n none (.inr p') h' q) (.inr p') post τ (if fv_gi τ1 3 = 1 then O else fv_bi (zX8_refuse τ1) (fun r s => if r = 0 ∨ r = 1 then fv_ri r s else none) fv_no) := by
  have e1 := (m_k k.1 1 (by omega)).trans (qmk_e (qT B n p').1).2.1
  unfold qLF
  by_cases c : (qT B n p').1 = 0
  · rw [if_pos (show fv_gi τ1 3 = 1 from e1.2 c)]
    show mSo B n (if (qT B n p').1 = 0 then (if 65536 < h' then some (8, q) else none) else _) _ _ _ _
    rw [if_pos c, if_neg (by omega)]
    obtain ⟨τ2, h1, h2, h3, h4⟩ := hO c
    exact ⟨p', τ2, rfl, c, hp, h1, h2, h3.trans k.1.1, h4⟩
  · rw [if_neg (show ¬ fv_gi τ1 3 = 1 from fun e => c (e1.1 e))]
    show mSo B n (if (qT B n p').1 = 0 then (if 65536 < h' then some (8, q) else none) else _) _ _ _ _
    rw [if_neg c]
    exact mFx_t f (mFx_b (mFx_f (mFt_rf h8 k.1)))
theorem m_org {B : Nat → Nat} {n N p q : Nat} (hS : qS B n) (hN : 7000 ≤ N) {sec : Bool} {L : List (List Nat × Int32)} {h : Nat} {I : List (Bool × Bool)} {org : Nat} {τ : fv_S} (z : mZ B n sec L h I org τ) (hp : p ≤ n) (k : qMt B (qT B n p) τ) :
    mSo B n (qLF B n (qkg ((qEX B n p).1 (qen L org)).1 ((qEX B n p).1 (qen L org)).2 (qEX B n p).2 0 65535 (qT B n p).2.1) (qEX B n p).2 (min 65536 ((qEX B n p).1 (qen L org)).2.toNatClampNeg) q) (qEX B n p).2 (fun τ' => mZ B n sec L ((qEX B n p).1 (qen L org)).2.toNatClampNeg I org τ' ∧ mMs τ τ') τ
      (fv_bi (zX8_expression N 1 τ) (fun r24 σ23 => if ¬ r24 = 0 then (if (fv_gi σ23 22) < 0 then zX8_directive_75 N (fv_gi τ 4) σ23 else if (fv_gi σ23 22) ≤ 65535 then (if (fv_gi σ23 3) = 1 then fv_ri 1 (fv_si σ23 20 (fv_gi σ23 22)) else fv_bi (zX8_refuse σ23) (fun r26 σ25 => if r26 = 0 ∨ r26 = 1 then fv_ri r26 σ25 else none) fv_no) else zX8_directive_75 N (fv_gi τ 4) σ23) else fv_ri 0 σ23) fv_no) := by
  obtain ⟨A, C, D⟩ := m_kx (N := N) hS hN z hp k
  cases hg : ((qEX B n p).1 (qen L org)).1 with
  | some f =>
    have : qkg (some f) ((qEX B n p).1 (qen L org)).2 (qEX B n p).2 0 65535 (qT B n p).2.1 = some f := by
      cases (qEX B n p).2 <;> rfl
    rw [this]
    exact mFx_n (A f hg) _
  | none =>
    have C := C hg
    have D := D hg
    generalize ((qEX B n p).1 (qen L org)).2 = v at D ⊢
    cases ho : (qEX B n p).2 with
    | inl f => exact mFx_n (C f ho) _
    | inr p' =>
      obtain ⟨τ', x, f, k', z', hp', e22⟩ := D p' ho
      have f4 : fv_gi τ 4 = Int32.ofNat (qT B n p).2.1 := k.1.2.2.1
      have far : zX8_directive_75 N (fv_gi τ 4) τ' = fv_bi (zX8_wrong (Int32.ofNat 5) (Int32.ofNat (qT B n p).2.1) τ') (fun r s => if r = 0 ∨ r = 1 then fv_ri r s else none) fv_no := by
        unfold zX8_directive_75; rw [f4]; rfl
      have fault : mFx (5, (qT B n p).2.1) τ (zX8_directive_75 N (fv_gi τ 4) τ') := by
        rw [far]; exact mFx_t (mFo_e f) (mFx_w z'.2.2.2.2.2.1 (5, (qT B n p).2.1) ⟨by show 1 ≤ 5; omega, by show 5 ≤ 9; omega⟩)
      rw [x, fv_bi_ri, if_pos (show ¬ (1 : Int32) = 0 by decide), e22]
      show mSo B n (qLF B n (if qin v 0 65535 = true then none else some (5, (qT B n p).2.1)) _ _ q) _ _ _ _
      by_cases c1 : v < 0
      · have : qin v 0 65535 = false := decide_eq_false (fun h => by rw [p_lt] at c1; have := (p_le 0 v).1 h.1; omega)
        rw [if_pos c1, this, if_neg (by decide)]
        exact fault
      rw [if_neg c1]
      by_cases c2 : v ≤ 65535
      · have hi : qin v 0 65535 = true := decide_eq_true ⟨by rw [p_le]; rw [p_lt] at c1; omega, c2⟩
        obtain ⟨m, m1, m2, m3, m4⟩ := qin_16 hi
        rw [if_pos c2, hi, if_pos rfl]
        refine m_fin (mFo_e f) hp' k' z'.2.2.2.2.2.1 _ q (by omega) _ (fun _ => ⟨_, rfl, mFo_si (mFo_e f) 20 v (by omega), rfl, ⟨?_, mMs_t (mMs_e f) ⟨rfl, rfl, rfl⟩⟩⟩)
        refine ⟨⟨z'.1.1, z'.1.2⟩, ⟨z'.2.1.1, z'.2.1.2⟩, z'.2.2.1, ?_, z'.2.2.2.2.1, z'.2.2.2.2.2.1, z'.2.2.2.2.2.2.1, mIf_c I τ' _ (fun _ _ => ⟨rfl, rfl⟩) z'.2.2.2.2.2.2.2⟩
        show v = Int32.ofNat v.toNatClampNeg
        rw [m4]; exact m2
      · have : qin v 0 65535 = false := decide_eq_false (fun h => c2 h.2)
        rw [if_neg c2, this, if_neg (by decide)]
        exact fault
