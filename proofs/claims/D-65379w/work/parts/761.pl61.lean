set_option maxRecDepth 100000
set_option maxHeartbeats 4000000
/-! The plain law: an expression as a whole, in the class and in the model. -/
noncomputable def qEX (B : Nat → Nat) (n p : Nat) : qSm × qOu := Classical.epsilon (fun so : qSm × qOu => Ps B n none 1 0 p so.1 so.2)
theorem qEX_s {B : Nat → Nat} {n p : Nat} (hS : qS B n) (hp : p ≤ n) : Ps B n none 1 0 p (qEX B n p).1 (qEX B n p).2 := by
  obtain ⟨s, o, h⟩ := Ps_ex hS (n - p) 1 0 p (by omega) (by omega) (by omega) hp (Nat.le_refl _)
  exact Classical.epsilon_spec (p := fun so : qSm × qOu => Ps B n none 1 0 p so.1 so.2) ⟨(s, o), h⟩
/-- the model before an expression -/
def mX (B : Nat → Nat) (n : Nat) (L : List (List Nat × Int32)) (e : qEv) (p : Nat) (τ : fv_S) : Prop := qM B n τ ∧ mL L τ ∧ e.1 = qlk L ∧ fv_gi τ 21 = e.2 ∧ qMt B (qT B n p) τ ∧ fv_gi τ 8 = 0 ∧ p ≤ n
def mXo (B : Nat → Nat) (n : Nat) (K : Bool) (e : qEv) (s : qSm) (o : qOu) (τ : fv_S) (out : Option fv_O) : Prop := match o with
  | .inl f => mFt (mFl1 K e s f) τ out
  | .inr p' => (K = true ∧ ∃ f, (s e).1 = some f ∧ mFt f τ out) ∨ ∃ τ', out = fv_ri 1 τ' ∧ mFe τ τ' ∧ qMt B (qT B n p') τ' ∧ fv_gi τ' 8 = 0 ∧ p' ≤ n ∧ (K = true → (s e).1 = none ∧ fv_gi τ' 22 = (s e).2)
theorem m_exp {B : Nat → Nat} {n N p : Nat} (hS : qS B n) (hN : 7000 ≤ N) {L : List (List Nat × Int32)} (K : Bool) {e : qEv} {τ : fv_S} (h : mX B n L e p τ) : mXo B n K e (qEX B n p).1 (qEX B n p).2 τ (zX8_expression N (q01 K) τ) := by
  have hn := hS.1
  obtain ⟨h1, h2, h3, h4, h5, h6, hp⟩ := h
  have hP := qEX_s hS hp
  unfold zX8_expression
  have f0 : mFs τ (fv_si (fv_si (fv_si τ 16 0) 18 0) 19 0) := ⟨fun k a b c => (if_neg c).trans ((if_neg b).trans (if_neg a)), rfl, fun _ _ _ _ => rfl, rfl⟩
  have s0 : mS [] [] (fv_si (fv_si (fv_si τ 16 0) 18 0) 19 0) := ⟨trivial, trivial, rfl, rfl, rfl⟩
  have c0 : mC B n L e [] [] p (fv_si (fv_si (fv_si τ 16 0) 18 0) 19 0) := ⟨qM_s h1 (mFe_s f0), mL_s h2 (mFe_s f0), h3, h4, qMt_s h5 f0, s0, h6, hp⟩
  have pr : mPr 1 0 [] [] := ⟨by simp, rfl, by simp, fun x hx => absurd hx (by simp), by omega, fun _ => trivial⟩
  have R := (m_exq hS hN L K e hP [] [] _ N c0 pr (by omega)).2 (fun x W' e => absurd e (by simp))
  generalize hs : (qEX B n p).1 = s at R hP ⊢
  generalize ho : (qEX B n p).2 = o at R hP ⊢
  cases o with
  | inl f => exact mFt_t (mFe_s f0) R
  | inr p' =>
    rcases R with ⟨hK, f, hf, hF⟩ | ⟨τ2, m1, m2, P, V', y1, y2, y3, y4, y5, y6⟩
    · exact Or.inl ⟨hK, f, hf, mFt_t (mFe_s f0) hF⟩
    · obtain ⟨m2, rfl⟩ : ∃ j, m2 = j + 1 := ⟨m2 - 1, by omega⟩
      have hp' := y5.2.2.2.2.2.2.2
      have f2 := mFe_t (mFe_s f0) y2
      have l0 := Ps_end hP (Or.inl rfl) p' rfl
      have p2 := y6.2.1
      have p3 := y6.2.2.1
      simp only [List.length_nil] at p3
      obtain ⟨A, C⟩ := m_Ben hS hN K y5 (by omega) (Or.inl rfl) y6.1 (by simp only [List.length_nil]; omega) (by omega) (by omega) m1 m2
      rw [y1]
      rcases mP_c y6 with ⟨hK, f, hf, hq⟩ | ⟨v, V'', hq, hl, hv⟩
      · exact Or.inl ⟨hK, f, hf, mFt_t f2 (A f hq)⟩
      · obtain ⟨τ3, z1, z2, z3⟩ := C _ hq
        have hV : V'' = [] := List.eq_nil_of_length_eq_zero hl
        subst hV
        rw [z1]
        obtain ⟨N', rfl⟩ : ∃ j, N = j + 1 := ⟨N - 1, by omega⟩
        have sv := z3.2.2.2.2.2.1
        refine Or.inr ⟨fv_si τ3 22 (fv_ga τ3 7 0), ?_, ?_, ?_, z3.2.2.2.2.2.2.1, hp', fun hK => ⟨(hv hK).1, ?_⟩⟩
        · show zX8_expression_139_b _ _ _ _ = _
          unfold zX8_expression_139_b
          rw [if_pos (show fv_gi τ3 16 ≤ 0 by rw [sv.2.2.1]; decide)]
        · have g := mFe_t f2 (mFe_s z2)
          exact ⟨fun k a b c d e f g' => (if_neg g').trans (g.1 k a b c d e f g'), g.2.1, g.2.2.1, g.2.2.2⟩
        · exact ⟨z3.2.2.2.2.1.1, z3.2.2.2.2.1.2⟩
        · show fv_gw τ3 7 0 = _
          rw [← (hv hK).2.1]; exact sv.2.1.1
/-- what an expression leaves alone in the class -/
def xFx (σ σ' : fv_S) : Prop := (∀ k, k ≠ 1560 → k ≠ 1561 → k ≠ 1562 → k ≠ 1563 → k ≠ 1564 → (k < 1667 ∨ 1672 < k) → fv_gi σ' k = fv_gi σ k) ∧ σ'.2.1 = σ.2.1 ∧ σ'.2.2.1 = σ.2.2.1
theorem xFx_r (σ : fv_S) : xFx σ σ := ⟨fun _ _ _ _ _ _ _ => rfl, rfl, rfl⟩
theorem xFx_t {a b c : fv_S} (h : xFx a b) (g : xFx b c) : xFx a c := ⟨fun k h1 h2 h3 h4 h5 h6 => (g.1 k h1 h2 h3 h4 h5 h6).trans (h.1 k h1 h2 h3 h4 h5 h6), g.2.1.trans h.2.1, g.2.2.trans h.2.2⟩
theorem xFx_e {a b : fv_S} (h : xFe a b) : xFx a b := ⟨fun k h1 _ h3 h4 h5 h6 => h.1 k h1 h3 h4 h5 h6, h.2⟩
theorem xFx_g {a b : fv_S} (h : qGx a b) : xFx a b := xFx_e (xFe_g h)
theorem xFx_tl {a b : fv_S} (g : ∀ k, k ≠ 1563 → k ≠ 1564 → fv_gi b k = fv_gi a k) (g2 : b.2 = a.2) : xFx a b := ⟨fun k _ _ _ h4 h5 _ => g k h4 h5, by rw [g2], by rw [g2]⟩
/-- the class before an expression -/
def xX (B : Nat → Nat) (n : Nat) (L : List (List Nat × Int32)) (K : Prop) (e : qEv) (r : Option (Nat × Nat)) (p : Nat) (σ : fv_S) : Prop := xI B n L K e σ ∧ fv_gi σ 1562 = 0 ∧ xAt B n p σ ∧ xR r σ
def xXo (B : Nat → Nat) (n : Nat) (K : Prop) (r : Option (Nat × Nat)) (q : Nat) (g : Option (Nat × Nat)) (v : Int32) (o : qOu) (σ : fv_S) (out : Option fv_O) : Prop := match o with
  | .inr p' => ∃ w σ', out = fv_ri w σ' ∧ xFx σ σ' ∧ fv_n σ' = fv_n σ ∧ fv_gi σ' 1562 = 0 ∧ fv_gi σ' 1561 = Int32.ofNat q ∧ xAt B n p' σ' ∧ xG K r g p' σ' ∧ (K → g = none → w = v)
  | .inl f => ∃ σ', out = fv_th (Int32.ofNat f.1) (Int32.ofNat f.2) σ' ∧ xFx σ σ' ∧ fv_n σ' = fv_n σ + 1 ∧ (1 ≤ f.1 ∧ f.1 ≤ 2 ∧ f.2 ≤ n) ∧ (K → xR (qto r g) σ' ∧ ∀ h, g = some h → h.2 < f.2) ∧ (¬ K → xR r σ')
theorem x_expr {B : Nat → Nat} {n N p : Nat} (hS : qS B n) (hN : 7000 ≤ N) {L : List (List Nat × Int32)} {K : Prop} {e : qEv} {r : Option (Nat × Nat)} {σ : fv_S} (h : xX B n L K e r p σ) : xXo B n K r (qT B n p).2.1 ((qEX B n p).1 e).1 ((qEX B n p).1 e).2 (qEX B n p).2 σ (zX3_exp N σ) := by
  obtain ⟨h1, h2, h3, h4⟩ := h
  have hp := h3.1
  have hP := qEX_s hS hp
  unfold zX3_exp
  obtain ⟨σ1, x1, f1, k1⟩ := x_look hS hN h1.1 h3
  rw [x1, fv_bi_ri, k1.2.2.1]
  have hI1 := xI_e h1 (xFe_g f1)
  have S : xS B n L K e r none 0 p (fv_si (fv_si σ1 1561 (Int32.ofNat (qT B n p).2.1)) 1560 1) := by
    refine ⟨?_, ?_, ⟨hp, Or.inr k1⟩, ⟨fun _ => ⟨rfl, xR_c h4 (f1.1 1563 (by omega)) (f1.1 1564 (by omega)), fun f hf => absurd hf (by simp)⟩, fun _ => ⟨Or.inr rfl, xR_c h4 (f1.1 1563 (by omega)) (f1.1 1564 (by omega))⟩⟩⟩
    · exact ⟨⟨hI1.1.1, hI1.1.2⟩, ⟨hI1.2.1.1, hI1.2.1.2⟩, hI1.2.2⟩
    · exact (f1.1 1562 (by omega)).trans h2
  have R := x_exp hS hN L K e hP (by omega) r none _ S
  have ff : xFx σ (fv_si (fv_si σ1 1561 (Int32.ofNat (qT B n p).2.1)) 1560 1) := ⟨fun k a b _ _ _ h6 => (if_neg a).trans ((if_neg b).trans (f1.1 k h6)), (xFe_g f1).2.1, (xFe_g f1).2.2⟩
  have fn : fv_n (fv_si (fv_si σ1 1561 (Int32.ofNat (qT B n p).2.1)) 1560 1) = fv_n σ := show fv_n σ1 = fv_n σ from qGx_n f1
  have e1 : xfl N (zX3_rU N (45 - 0)) 1 (fv_si (fv_si σ1 1561 (Int32.ofNat (qT B n p).2.1)) 1560 1) = zX3_or N (zX3_rU N 45) (fv_si (fv_si σ1 1561 (Int32.ofNat (qT B n p).2.1)) 1560 1) := rfl
  rw [e1] at R
  generalize hs : (qEX B n p).1 = s at R ⊢
  generalize ho : (qEX B n p).2 = o at R ⊢
  have e0 : qoe none (s e).1 = (s e).1 := rfl
  rw [e0] at R
  cases o with
  | inl f =>
    obtain ⟨σ', y1, y2, y3, y4, y5, y6⟩ := R
    rw [y1, fv_bi_th]
    exact ⟨σ', rfl, xFx_t ff (xFx_e y2), y3.trans (by rw [fn]), y4, y5, y6⟩
  | inr p' =>
    obtain ⟨w, σ', y1, y2, y3, y4, y5, y6, y7⟩ := R
    rw [y1, fv_bi_ri]
    exact ⟨w, σ', rfl, xFx_t ff (xFx_e y2), y3.trans fn, y4, (y2.1 1561 (by omega) (by omega) (by omega) (by omega) (by omega)).trans rfl, y5, y6, y7⟩
