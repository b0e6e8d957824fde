set_option maxRecDepth 100000
set_option maxHeartbeats 4000000
/-! The plain law: the model's stacks. -/
def mW : List (Nat × Nat) → fv_S → Prop
  | [], _ => True
  | x :: W, τ => fv_gw τ 5 W.length = Int32.ofNat (qmv x.1) ∧ fv_gw τ 6 W.length = Int32.ofNat x.2 ∧ mW W τ
def mV : List Int32 → fv_S → Prop
  | [], _ => True
  | v :: V, τ => fv_gw τ 7 V.length = v ∧ mV V τ
def qop : List (Nat × Nat) → Nat
  | [] => 0
  | x :: W => (if x.1 ≤ 3 then 1 else 0) + qop W
def mS (W : List (Nat × Nat)) (V : List Int32) (τ : fv_S) : Prop := mW W τ ∧ mV V τ ∧ fv_gi τ 16 = Int32.ofNat W.length ∧ fv_gi τ 18 = Int32.ofNat V.length ∧ fv_gi τ 19 = Int32.ofNat (qop W)
theorem mW_c : ∀ (W : List (Nat × Nat)) (τ τ' : fv_S), (∀ i, i < W.length → fv_gw τ' 5 i = fv_gw τ 5 i ∧ fv_gw τ' 6 i = fv_gw τ 6 i) → mW W τ → mW W τ' := by
  intro W
  induction W with
  | nil => intro _ _ _ _; exact trivial
  | cons x W ih =>
    intro τ τ' h hw
    have h0 := h W.length (by simp)
    exact ⟨h0.1.trans hw.1, h0.2.trans hw.2.1, ih τ τ' (fun i hi => h i (by simp; omega)) hw.2.2⟩
theorem mV_c : ∀ (V : List Int32) (τ τ' : fv_S), (∀ i, i < V.length → fv_gw τ' 7 i = fv_gw τ 7 i) → mV V τ → mV V τ' := by
  intro V
  induction V with
  | nil => intro _ _ _ _; exact trivial
  | cons x V ih =>
    intro τ τ' h hw
    exact ⟨(h V.length (by simp)).trans hw.1, ih τ τ' (fun i hi => h i (by simp; omega)) hw.2⟩
/-- what stack operations leave alone -/
def mFs (τ τ' : fv_S) : Prop := (∀ k, k ≠ 16 → k ≠ 18 → k ≠ 19 → fv_gi τ' k = fv_gi τ k) ∧ τ'.2.1 = τ.2.1 ∧ (∀ a, a ≠ 5 → a ≠ 6 → a ≠ 7 → fv_gw τ' a = fv_gw τ a) ∧ fv_n τ' = fv_n τ
theorem mFs_r (τ : fv_S) : mFs τ τ := ⟨fun _ _ _ _ => rfl, rfl, fun _ _ _ _ => rfl, rfl⟩
theorem mFs_t {a b c : fv_S} (h : mFs a b) (g : mFs b c) : mFs a c := ⟨fun k h1 h2 h3 => (g.1 k h1 h2 h3).trans (h.1 k h1 h2 h3), g.2.1.trans h.2.1, fun k h1 h2 h3 => (g.2.2.1 k h1 h2 h3).trans (h.2.2.1 k h1 h2 h3), g.2.2.2.trans h.2.2.2⟩
/-- what an expression leaves alone -/
def mFe (τ τ' : fv_S) : Prop := (∀ k, (k < 2 ∨ 6 < k) → k ≠ 8 → k ≠ 9 → k ≠ 16 → k ≠ 18 → k ≠ 19 → k ≠ 22 → fv_gi τ' k = fv_gi τ k) ∧ (∀ k, k ≠ 7 → fv_gl τ' k = fv_gl τ k) ∧ (∀ a, a ≠ 5 → a ≠ 6 → a ≠ 7 → fv_gw τ' a = fv_gw τ a) ∧ fv_n τ' = fv_n τ
theorem mFe_r (τ : fv_S) : mFe τ τ := ⟨fun _ _ _ _ _ _ _ _ => rfl, fun _ _ => rfl, fun _ _ _ _ => rfl, rfl⟩
theorem mFe_t {a b c : fv_S} (h : mFe a b) (g : mFe b c) : mFe a c := ⟨fun k h1 h2 h3 h4 h5 h6 h7 => (g.1 k h1 h2 h3 h4 h5 h6 h7).trans (h.1 k h1 h2 h3 h4 h5 h6 h7), fun k hk => (g.2.1 k hk).trans (h.2.1 k hk), fun k h1 h2 h3 => (g.2.2.1 k h1 h2 h3).trans (h.2.2.1 k h1 h2 h3), g.2.2.2.trans h.2.2.2⟩
theorem mFe_s {a b : fv_S} (h : mFs a b) : mFe a b := ⟨fun k _ _ _ h4 h5 h6 _ => h.1 k h4 h5 h6, fun k _ => by show b.2.1 k = _; rw [h.2.1], h.2.2.1, h.2.2.2⟩
theorem mFe_q {a b : fv_S} (h : qFt a b) : mFe a b := ⟨fun k h1 _ _ _ _ _ _ => h.1 k h1, h.2.2, fun x _ _ _ => by show b.2.2.1 x = _; rw [h.2.1], by show b.2.2.2 = _; rw [h.2.1]⟩
theorem qMt_s {B : Nat → Nat} {t : qTok} {τ τ' : fv_S} (h : qMt B t τ) (f : mFs τ τ') : qMt B t τ' := by
  have g : ∀ k, k ≤ 6 → fv_gi τ' k = fv_gi τ k := fun k hk => f.1 k (by omega) (by omega) (by omega)
  refine ⟨⟨(g 2 (by omega)).trans h.1.1, (g 3 (by omega)).trans h.1.2.1, (g 4 (by omega)).trans h.1.2.2.1, fun x => (g 6 (by omega)).trans (h.1.2.2.2.1 x), fun x => (g 6 (by omega)).trans (h.1.2.2.2.2.1 x), ?_⟩, (g 5 (by omega)).trans h.2⟩
  show τ'.2.1 7 = _
  rw [f.2.1]; exact h.1.2.2.2.2.2
theorem qM_s {B : Nat → Nat} {n : Nat} {τ τ' : fv_S} (h : qM B n τ) (f : mFe τ τ') : qM B n τ' := by
  refine ⟨(f.1 1 (by omega) (by omega) (by omega) (by omega) (by omega) (by omega) (by omega)).trans h.1, ?_⟩
  rw [f.2.2.1 1 (by omega) (by omega) (by omega)]; exact h.2
theorem mL_s {L : List (List Nat × Int32)} {τ τ' : fv_S} (h : mL L τ) (f : mFe τ τ') : mL L τ' := by
  refine ⟨(f.1 13 (by omega) (by omega) (by omega) (by omega) (by omega) (by omega) (by omega)).trans h.1, h.2.1, ?_⟩
  rw [f.2.2.1 2 (by omega) (by omega) (by omega), f.2.2.1 3 (by omega) (by omega) (by omega), f.2.2.1 4 (by omega) (by omega) (by omega)]; exact h.2.2
theorem mS_q {W : List (Nat × Nat)} {V : List Int32} {τ τ' : fv_S} (h : mS W V τ) (f : qFt τ τ') : mS W V τ' := by
  have e : fv_gw τ' = fv_gw τ := by show τ'.2.2.1 = _; rw [f.2.1]
  refine ⟨mW_c W τ τ' (fun i _ => by rw [e]; exact ⟨rfl, rfl⟩) h.1, mV_c V τ τ' (fun i _ => by rw [e]) h.2.1, (f.1 16 (by omega)).trans h.2.2.1, (f.1 18 (by omega)).trans h.2.2.2.1, (f.1 19 (by omega)).trans h.2.2.2.2⟩
theorem qmv_c (k c : Nat) (hk : k < 256) (hc : c ≤ 3) : Int32.ofNat (qmv k) = Int32.ofNat c ↔ k = c := by
  have : qmv k < 400 := by unfold qmv; repeat' split
                           all_goals omega
  rw [p_eqN _ _ (by omega) (by omega)]
  unfold qmv
  repeat' split
  all_goals omega
/-- a sign is pushed -/
theorem m_psh {W : List (Nat × Nat)} {V : List Int32} {τ : fv_S} (h : mS W V τ) (k q : Nat) (hl : W.length < 400) (hq : fv_gi τ 4 = Int32.ofNat q) : ∃ τ', zX8_push (Int32.ofNat (qmv k)) τ = fv_rv τ' ∧ mW ((k, q) :: W) τ' ∧ mV V τ' ∧ fv_gi τ' 16 = Int32.ofNat (W.length + 1) ∧ fv_gi τ' 18 = Int32.ofNat V.length ∧ fv_gi τ' 19 = Int32.ofNat (qop W) ∧ mFs τ τ' := by
  obtain ⟨i1, i2⟩ := p_inN W.length 400 hl (by omega)
  unfold zX8_push
  rw [h.2.2.1, hq, if_pos i1, if_pos i1, p_sucN]
  refine ⟨_, rfl, ⟨?_, ?_, mW_c W τ _ (fun i hi => ⟨?_, ?_⟩) h.1⟩, mV_c V τ _ (fun i _ => ?_) h.2.1, rfl, h.2.2.2.1, h.2.2.2.2, ⟨fun k h1 h2 h3 => if_neg h1, rfl, fun a h1 h2 h3 => ?_, rfl⟩⟩
  · show fv_gw (fv_sa (fv_sa τ 5 (Int32.ofNat W.length) _) 6 (Int32.ofNat W.length) _) 5 W.length = _
    rw [s_an _ _ _ _ _ (by omega)]
    have := s_ak τ 5 (Int32.ofNat W.length) (Int32.ofNat (qmv k))
    rw [i2] at this; exact this
  · show fv_gw (fv_sa (fv_sa τ 5 (Int32.ofNat W.length) _) 6 (Int32.ofNat W.length) _) 6 W.length = _
    have := s_ak (fv_sa τ 5 (Int32.ofNat W.length) (Int32.ofNat (qmv k))) 6 (Int32.ofNat W.length) (Int32.ofNat q)
    rw [i2] at this; exact this
  · show fv_gw (fv_sa (fv_sa τ 5 (Int32.ofNat W.length) _) 6 (Int32.ofNat W.length) _) 5 i = _
    rw [s_an _ _ _ _ _ (by omega), s_ai _ _ _ _ _ (by rw [i2]; omega)]
  · show fv_gw (fv_sa (fv_sa τ 5 (Int32.ofNat W.length) _) 6 (Int32.ofNat W.length) _) 6 i = _
    rw [s_ai _ _ _ _ _ (by rw [i2]; omega), s_an _ _ _ _ _ (by omega)]
  · show fv_gw (fv_sa (fv_sa τ 5 (Int32.ofNat W.length) _) 6 (Int32.ofNat W.length) _) 7 i = _
    rw [s_an _ _ _ _ _ (by omega), s_an _ _ _ _ _ (by omega)]
  · show fv_gw (fv_sa (fv_sa τ 5 (Int32.ofNat W.length) _) 6 (Int32.ofNat W.length) _) a = _
    rw [s_an _ _ _ _ _ h2, s_an _ _ _ _ _ h1]
/-- the model has a fault -/
def mFt (f : Nat × Nat) (τ : fv_S) (o : Option fv_O) : Prop := ∃ τ', o = fv_ri 0 τ' ∧ fv_gi τ' 8 = Int32.ofNat f.1 ∧ fv_gi τ' 9 = Int32.ofNat f.2 ∧ (1 ≤ f.1 ∧ f.1 ≤ 9) ∧ mFe τ τ'
theorem mFt_t {f : Nat × Nat} {τ0 τ : fv_S} {o : Option fv_O} (g : mFe τ0 τ) (h : mFt f τ o) : mFt f τ0 o := by
  obtain ⟨τ', h1, h2, h3, h4, h5⟩ := h; exact ⟨τ', h1, h2, h3, h4, mFe_t g h5⟩
theorem mFt_w {τ : fv_S} (h : fv_gi τ 8 = 0) (f : Nat × Nat) (hf : 1 ≤ f.1 ∧ f.1 ≤ 9) : mFt f τ (zX8_wrong (Int32.ofNat f.1) (Int32.ofNat f.2) τ) := by
  rw [m_wrong h]
  exact ⟨_, rfl, rfl, rfl, hf, ⟨fun k _ h8 h9 _ _ _ _ => (if_neg h9).trans (if_neg h8), fun _ _ => rfl, fun _ _ _ _ => rfl, rfl⟩⟩
theorem mFt_b {f : Nat × Nat} {τ : fv_S} {o : Option fv_O} (h : mFt f τ o) : mFt f τ (fv_bi o (fun r s => if r = 0 ∨ r = 1 then fv_ri r s else none) fv_no) := by
  obtain ⟨τ', h1, h2⟩ := h
  rw [h1, fv_bi_ri, if_pos (Or.inl rfl)]; exact ⟨τ', rfl, h2⟩
theorem mFt_rf {B : Nat → Nat} {t : qTok} {τ : fv_S} (h : fv_gi τ 8 = 0) (k : qN B t τ) : mFt (qwr t, t.2.1) τ (zX8_refuse τ) := by
  have wr : 1 ≤ qwr t ∧ qwr t ≤ 9 := by unfold qwr; split <;> omega
  rw [m_refuse h k]
  exact ⟨_, rfl, rfl, rfl, wr, ⟨fun k _ h8 h9 _ _ _ _ => (if_neg h9).trans (if_neg h8), fun _ _ => rfl, fun _ _ _ _ => rfl, rfl⟩⟩
theorem p_prN (a : Nat) (h : 1 ≤ a) : Int32.ofNat a - 1 = Int32.ofNat (a - 1) := p_subN a 1 h
theorem qmv_bin {k : Nat} (h : 1 ≤ qlv k) : k < 256 ∧ 3 < k := by
  rcases qlv_c rfl h with ⟨_, e⟩ | ⟨_, e⟩ | ⟨_, e⟩ | ⟨_, e⟩ | ⟨_, e⟩ | ⟨_, e⟩ | ⟨_, e⟩ | ⟨_, e⟩ | ⟨_, e⟩ <;> omega
/-- a sign between two is applied -/
theorem m_apply {W : List (Nat × Nat)} {V : List Int32} {a b : Int32} {k q : Nat} {τ : fv_S} (h : mS ((k, q) :: W) (b :: a :: V) τ) (hk : 1 ≤ qlv k) (hl : W.length < 400) (hv : V.length + 2 ≤ 400) (K : Bool) (h8 : fv_gi τ 8 = 0) :
    ((K = true ∧ k = 47 ∧ b = 0) → mFt (5, q) τ (zX8_apply (q01 K) τ)) ∧
    (¬ (K = true ∧ k = 47 ∧ b = 0) → ∃ τ', zX8_apply (q01 K) τ = fv_ri 1 τ' ∧ mS W ((if k = 47 ∧ b = 0 then qap k a 1 else qap k a b) :: V) τ' ∧ mFs τ τ') := by
  obtain ⟨⟨w1, w2, w3⟩, ⟨v1, v2, v3⟩, s1, s2, s3⟩ := h
  have hb := qmv_bin hk
  obtain ⟨i1, i2⟩ := p_inN W.length 400 hl (by omega)
  obtain ⟨j1, j2⟩ := p_inN V.length 400 (by omega) (by omega)
  obtain ⟨l1, l2⟩ := p_inN (V.length + 1) 400 (by omega) (by omega)
  have e16 : fv_gi τ 16 - 1 = Int32.ofNat W.length := by rw [s1]; show Int32.ofNat (W.length + 1) - 1 = _; rw [p_prN _ (by omega)]; rfl
  have e18 : fv_gi τ 18 - 1 = Int32.ofNat (V.length + 1) := by rw [s2]; show Int32.ofNat (V.length + 1 + 1) - 1 = _; rw [p_prN _ (by omega)]; rfl
  have e18' : Int32.ofNat (V.length + 1) - 1 = Int32.ofNat V.length := by rw [p_prN _ (by omega)]; rfl
  have g5 : fv_ga τ 5 (Int32.ofNat W.length) = Int32.ofNat (qmv k) := by show fv_gw τ 5 (Int32.ofNat W.length).toNatClampNeg = _; rw [i2]; exact w1
  have g6 : fv_ga τ 6 (Int32.ofNat W.length) = Int32.ofNat q := by show fv_gw τ 6 (Int32.ofNat W.length).toNatClampNeg = _; rw [i2]; exact w2
  have ga : fv_ga τ 7 (Int32.ofNat V.length) = a := by show fv_gw τ 7 (Int32.ofNat V.length).toNatClampNeg = _; rw [j2]; exact v2
  have gb : fv_ga τ 7 (Int32.ofNat (V.length + 1)) = b := by show fv_gw τ 7 (Int32.ofNat (V.length + 1)).toNatClampNeg = _; rw [l2]; exact v1
  have n2 : ¬ Int32.ofNat (qmv k) = 2 := fun e => by have := (qmv_c k 2 hb.1 (by omega)).1 e; omega
  have n3 : ¬ Int32.ofNat (qmv k) = 3 := fun e => by have := (qmv_c k 3 hb.1 (by omega)).1 e; omega
  have n47 : Int32.ofNat (qmv k) = 47 ↔ k = 47 := by
    rcases qlv_c rfl hk with ⟨_, e⟩ | ⟨_, e⟩ | ⟨_, e⟩ | ⟨_, e⟩ | ⟨_, e⟩ | ⟨_, e⟩ | ⟨_, e⟩ | ⟨_, e⟩ | ⟨_, e⟩ <;> subst e <;> decide
  have eq0 : qop ((k, q) :: W) = qop W := by show (if k ≤ 3 then 1 else 0) + qop W = _; rw [if_neg (by omega)]; omega
  rw [eq0] at s3
  have e152 : ∀ (x4 : Int32), ¬ (k = 47 ∧ x4 = 0) → ∃ τ', zX8_apply_152 (Int32.ofNat (qmv k)) a x4 (fv_si (fv_si τ 16 (Int32.ofNat W.length)) 18 (Int32.ofNat (V.length + 1))) = fv_ri 1 τ' ∧ mS W (qap k a x4 :: V) τ' ∧ mFs τ τ' := by
    intro x4 hx
    have fin : ∀ v : Int32, ∃ τ', zX8_apply_278 (Int32.ofNat V.length) v (fv_si (fv_si τ 16 (Int32.ofNat W.length)) 18 (Int32.ofNat (V.length + 1))) = fv_ri 1 τ' ∧ mS W (v :: V) τ' ∧ mFs τ τ' := by
      intro v
      unfold zX8_apply_278
      rw [if_pos j1]
      refine ⟨_, rfl, ⟨mW_c W τ _ (fun i _ => ⟨?_, ?_⟩) w3, ⟨?_, mV_c V τ _ (fun i hi => ?_) v3⟩, rfl, rfl, s3⟩, ⟨fun k h1 h2 h3 => (if_neg h2).trans (if_neg h1), rfl, fun x h1 h2 h3 => ?_, rfl⟩⟩
      · exact congrFun (s_an _ _ _ _ _ (by omega)) i
      · exact congrFun (s_an _ _ _ _ _ (by omega)) i
      · have := s_ak (fv_si (fv_si τ 16 (Int32.ofNat W.length)) 18 (Int32.ofNat (V.length + 1))) 7 (Int32.ofNat V.length) v
        rw [j2] at this; exact this
      · exact s_ai _ _ _ _ _ (by rw [j2]; omega)
      · exact s_an _ _ _ _ _ h3
    unfold zX8_apply_152
    rw [show fv_gi (fv_si (fv_si τ 16 (Int32.ofNat W.length)) 18 (Int32.ofNat (V.length + 1))) 18 = Int32.ofNat (V.length + 1) from rfl, e18']
    rcases qlv_c rfl hk with ⟨_, e⟩ | ⟨_, e⟩ | ⟨_, e⟩ | ⟨_, e⟩ | ⟨_, e⟩ | ⟨_, e⟩ | ⟨_, e⟩ | ⟨_, e⟩ | ⟨_, e⟩
    · subst e; exact fin _
    · subst e; exact fin _
    · subst e; exact fin _
    · subst e; exact fin _
    · subst e; exact fin _
    · subst e; exact fin _
    · subst e; exact fin _
    · subst e; exact fin _
    · subst e
      have c0 : ¬ x4 = 0 := fun e => hx ⟨rfl, e⟩
      rw [if_pos (by decide), if_pos (by decide), if_pos (by decide), if_pos (by decide), if_pos (by decide), if_pos (by decide), if_pos (by decide), if_pos (by decide), if_neg c0]
      exact fin _
  unfold zX8_apply
  rw [e16, e18, e18', if_pos i1, g5, if_neg n2, if_pos n3, if_pos j1, if_pos l1, ga, gb, g6]
  constructor
  · rintro ⟨hK, h47, h0⟩
    rw [if_neg (not_not_intro (n47.2 h47)), if_neg (not_not_intro h0), hK, if_neg (show ¬ q01 true = 0 by decide), if_pos i1]
    have f1 : mFe τ (fv_si (fv_si τ 16 (Int32.ofNat W.length)) 18 (Int32.ofNat (V.length + 1))) := ⟨fun k _ _ _ h4 h5 _ _ => (if_neg h5).trans (if_neg h4), fun _ _ => rfl, fun _ _ _ _ => rfl, rfl⟩
    exact mFt_b (mFt_t f1 (mFt_w (τ := fv_si (fv_si τ 16 (Int32.ofNat W.length)) 18 (Int32.ofNat (V.length + 1))) h8 (5, q) ⟨by show 1 ≤ 5; omega, by show 5 ≤ 9; omega⟩))
  · intro hc
    by_cases h47 : k = 47
    · rw [if_neg (not_not_intro (n47.2 h47))]
      by_cases h0 : b = 0
      · have hK : K = false := by
          cases K
          · rfl
          · exact absurd ⟨rfl, h47, h0⟩ hc
        rw [if_neg (not_not_intro h0), hK, if_pos (show q01 false = 0 by decide), if_pos ⟨h47, h0⟩]
        exact e152 1 (fun h => absurd h.2 (by decide))
      · rw [if_pos h0, if_neg (fun h => h0 h.2)]
        exact e152 b (fun h => h0 h.2)
    · rw [if_pos (fun e => h47 (n47.1 e)), if_neg (fun h => h47 h.1)]
      exact e152 b (fun h => h47 h.1)
/-- a sign before one is applied -/
theorem m_applyU {W : List (Nat × Nat)} {V : List Int32} {v : Int32} {k q : Nat} {τ : fv_S} (h : mS ((k, q) :: W) (v :: V) τ) (hk : k = 2 ∨ k = 3) (hl : W.length < 400) (hv : V.length + 1 ≤ 400) (x : Int32) : ∃ τ', zX8_apply x τ = fv_ri 1 τ' ∧ mS W ((if k = 2 then -v else v ^^^ -1) :: V) τ' ∧ mFs τ τ' := by
  obtain ⟨⟨w1, w2, w3⟩, ⟨v1, v2⟩, s1, s2, s3⟩ := h
  obtain ⟨i1, i2⟩ := p_inN W.length 400 hl (by omega)
  obtain ⟨j1, j2⟩ := p_inN V.length 400 (by omega) (by omega)
  have e16 : fv_gi τ 16 - 1 = Int32.ofNat W.length := by rw [s1]; show Int32.ofNat (W.length + 1) - 1 = _; rw [p_prN _ (by omega)]; rfl
  have e18 : fv_gi τ 18 - 1 = Int32.ofNat V.length := by rw [s2]; show Int32.ofNat (V.length + 1) - 1 = _; rw [p_prN _ (by omega)]; rfl
  have e19 : fv_gi τ 19 - 1 = Int32.ofNat (qop W) := by
    rw [s3]; show Int32.ofNat ((if k ≤ 3 then 1 else 0) + qop W) - 1 = _
    rw [if_pos (by omega), p_prN _ (by omega)]; congr 1; omega
  have g5 : fv_ga τ 5 (Int32.ofNat W.length) = Int32.ofNat (qmv k) := by show fv_gw τ 5 (Int32.ofNat W.length).toNatClampNeg = _; rw [i2]; exact w1
  have gv : fv_ga τ 7 (Int32.ofNat V.length) = v := by show fv_gw τ 7 (Int32.ofNat V.length).toNatClampNeg = _; rw [j2]; exact v1
  have fin : ∀ w : Int32, ∃ τ', zX8_apply_83 (Int32.ofNat V.length) w (fv_si (fv_si τ 16 (Int32.ofNat W.length)) 19 (Int32.ofNat (qop W))) = fv_ri 1 τ' ∧ mS W (w :: V) τ' ∧ mFs τ τ' := by
    intro w
    unfold zX8_apply_83
    rw [if_pos j1]
    refine ⟨_, rfl, ⟨mW_c W τ _ (fun i _ => ⟨?_, ?_⟩) w3, ⟨?_, mV_c V τ _ (fun i hi => ?_) v2⟩, rfl, s2, rfl⟩, ⟨fun k h1 h2 h3 => (if_neg h3).trans (if_neg h1), rfl, fun x h1 h2 h3 => ?_, rfl⟩⟩
    · exact congrFun (s_an _ _ _ _ _ (by omega)) i
    · exact congrFun (s_an _ _ _ _ _ (by omega)) i
    · have := s_ak (fv_si (fv_si τ 16 (Int32.ofNat W.length)) 19 (Int32.ofNat (qop W))) 7 (Int32.ofNat V.length) w
      rw [j2] at this; exact this
    · exact s_ai _ _ _ _ _ (by rw [j2]; omega)
    · exact s_an _ _ _ _ _ h3
  have e30 : ∃ τ', zX8_apply_30 (Int32.ofNat (qmv k)) (fv_si τ 16 (Int32.ofNat W.length)) = fv_ri 1 τ' ∧ mS W ((if k = 2 then -v else v ^^^ -1) :: V) τ' ∧ mFs τ τ' := by
    unfold zX8_apply_30
    rw [show fv_gi (fv_si τ 16 (Int32.ofNat W.length)) 18 = fv_gi τ 18 from rfl, show fv_gi (fv_si τ 16 (Int32.ofNat W.length)) 19 = fv_gi τ 19 from rfl, show fv_ga (fv_si τ 16 (Int32.ofNat W.length)) 7 = fv_ga τ 7 from rfl, e18, e19, gv, if_pos j1, if_pos j1]
    rcases hk with rfl | rfl
    · rw [if_neg (by decide), if_pos rfl]; exact fin _
    · rw [if_pos (by decide), if_neg (by omega)]; exact fin _
  unfold zX8_apply
  rw [e16, if_pos i1, g5]
  rcases hk with rfl | rfl
  · rw [if_pos (by decide)]; exact e30
  · rw [if_neg (by decide), if_neg (by decide)]; exact e30
