set_option maxRecDepth 100000
set_option maxHeartbeats 4000000
/-! The plain law: the model reads expressions. -/
theorem Ps_pf {B : Nat → Nat} {n : Nat} {a : Option qSm} {l d p : Nat} {s : qSm} {o : qOu} (h : Ps B n a l d p s o) (e : qEv) : ∀ s0, a = some s0 → ∀ f, (s0 e).1 = some f → (s e).1 = some f := by
  refine h (fun a l d p s o => ∀ s0, a = some s0 → ∀ f, (s0 e).1 = some f → (s e).1 = some f) ⟨?_, ?_, ?_, ?_, ?_, ?_, ?_, ?_, ?_, ?_, ?_, ?_, ?_, ?_, ?_⟩
  · intro _ _ _ s0 h; exact absurd h (by simp)
  · intro _ _ _ s0 h; exact absurd h (by simp)
  · intro _ _ _ _ s0 h; exact absurd h (by simp)
  · intro _ _ _ _ s0 h; exact absurd h (by simp)
  · intro _ _ _ _ _ _ _ s0 h; exact absurd h (by simp)
  · intro _ _ _ _ _ _ _ s0 h; exact absurd h (by simp)
  · intro _ _ _ _ _ _ _ _ s0 h; exact absurd h (by simp)
  · intro _ _ _ _ _ _ _ _ s0 h; exact absurd h (by simp)
  · intro _ _ _ _ s0 h; exact absurd h (by simp)
  · intro _ _ _ s0 h; exact absurd h (by simp)
  · intro _ _ _ _ _ _ _ _ s0 h; exact absurd h (by simp)
  · intro _ _ _ _ _ _ _ _ _ _ _ s0 h; exact absurd h (by simp)
  · intro s l d p _ _ _ s0 h f hf; have := Option.some.inj h; subst this; exact hf
  · intro s l d p s2 f _ _ _ _ s0 h g hg
    have := Option.some.inj h; subst this
    show qoe (s e).1 (s2 e).1 = _
    rw [hg]; rfl
  · intro s l d p s2 p' s' o _ _ _ _ h3 s0 h g hg
    have := Option.some.inj h; subst this
    refine h3 _ rfl g ?_
    show qoe (s e).1 _ = _
    rw [hg]; rfl
theorem Ps_end {B : Nat → Nat} {n : Nat} {a : Option qSm} {l d p : Nat} {s : qSm} {o : qOu} (h : Ps B n a l d p s o) : (a = none ∨ qlv (qT B n p).1 < l + 1) → ∀ p', o = .inr p' → qlv (qT B n p').1 < l := by
  have l6 : ∀ q, qlv (qT B n q).1 < 7 := fun q => by have := qlv_6 (qT B n q).1; omega
  refine h (fun a l d p s o => (a = none ∨ qlv (qT B n p).1 < l + 1) → ∀ p', o = .inr p' → qlv (qT B n p').1 < l) ⟨?_, ?_, ?_, ?_, ?_, ?_, ?_, ?_, ?_, ?_, ?_, ?_, ?_, ?_, ?_⟩
  · intro _ _ _ _ p' _; exact l6 p'
  · intro _ _ _ _ p' _; exact l6 p'
  · intro _ _ _ _ _ p' _; exact l6 p'
  · intro _ _ _ _ _ p' _; exact l6 p'
  · intro _ _ _ _ _ _ _ _ p' _; exact l6 p'
  · intro _ _ _ _ _ _ _ _ p' _; exact l6 p'
  · intro _ _ _ _ _ _ _ _ _ p' _; exact l6 p'
  · intro _ _ _ _ _ _ _ _ _ p' _; exact l6 p'
  · intro _ _ _ _ _ p' _; exact l6 p'
  · intro _ _ _ _ p' _; exact l6 p'
  · intro _ _ _ _ _ _ _ _ _ p' h; exact absurd h (by simp)
  · intro l d p s p1 s' o _ _ h h2 _ p' e
    exact h2 (Or.inr (h (Or.inl rfl) p1 rfl)) p' e
  · intro s l d p _ _ h hh p' e
    have := Sum.inr.inj e; subst this
    rcases hh with h1 | h1
    · exact absurd h1 (by simp)
    · omega
  · intro _ _ _ _ _ _ _ _ _ _ _ p' h; exact absurd h (by simp)
  · intro s l d p s2 p1 s' o _ _ h h2 h3 _ p' e
    exact h3 (Or.inr (h2 (Or.inl rfl) p1 rfl)) p' e
/-- signs that wait, and what they will make -/
def mP (K : Bool) (e : qEv) (l : Nat) (s : qSm) (V : List Int32) (P : List (Nat × Nat)) (V' : List Int32) : Prop := (∀ x, x ∈ P → l ≤ qlv x.1) ∧ P.length ≤ 7 - l ∧ V'.length = V.length + 1 + P.length ∧ (K = true → (∀ f, (s e).1 = some f → qpp K P V' = .inl f) ∧ ((s e).1 = none → qpp K P V' = .inr ((s e).2 :: V)))
theorem qpp_fl : ∀ (P : List (Nat × Nat)) (V : List Int32), P.length + 1 ≤ V.length → ∃ v V'', qpp false P V = .inr (v :: V'') := by
  intro P
  induction P with
  | nil =>
    intro V h
    match V, h with
    | v :: V, _ => exact ⟨v, V, rfl⟩
  | cons x P ih =>
    intro V h
    match V, h with
    | b :: a :: V, h =>
      simp only [List.length_cons] at h
      rw [qpp_c]
      by_cases c : x.1 = 47 ∧ b = 0
      · rw [if_pos c, if_neg (by decide)]; exact ih _ (by simp only [List.length_cons]; omega)
      · rw [if_neg c]; exact ih _ (by simp only [List.length_cons]; omega)
theorem mP_c {K : Bool} {e : qEv} {l : Nat} {s : qSm} {V : List Int32} {P : List (Nat × Nat)} {V' : List Int32} (h : mP K e l s V P V') : (K = true ∧ ∃ f, (s e).1 = some f ∧ qpp K P V' = .inl f) ∨ ∃ v V'', qpp K P V' = .inr (v :: V'') ∧ V''.length = V.length ∧ (K = true → (s e).1 = none ∧ v = (s e).2 ∧ V'' = V) := by
  obtain ⟨h1, h2, h3, h4⟩ := h
  cases K with
  | true =>
    cases hs : (s e).1 with
    | some f => exact Or.inl ⟨rfl, f, rfl, (h4 rfl).1 f hs⟩
    | none => exact Or.inr ⟨_, _, (h4 rfl).2 hs, rfl, fun _ => ⟨rfl, rfl, rfl⟩⟩
  | false =>
    obtain ⟨v, V'', hq⟩ := qpp_fl P V' (by omega)
    have := qpp_len false P V' _ (by omega) hq
    simp only [List.length_cons] at this
    exact Or.inr ⟨v, V'', hq, by omega, fun h => absurd h (by decide)⟩
def mPr (l d : Nat) (W : List (Nat × Nat)) (V : List Int32) : Prop := W.length ≤ 7 * d + (l - 1) ∧ qop W = d ∧ V.length ≤ W.length ∧ (∀ x, x ∈ W → x.1 < 256) ∧ d ≤ 40 ∧ (l ≤ 6 → qlo l W)
def mFl1 (K : Bool) (e : qEv) (s : qSm) (f : Nat × Nat) : Nat × Nat := if K = true then (match (s e).1 with
  | some g => g
  | none => f) else f
def mR7 (B : Nat → Nat) (n N : Nat) (L : List (List Nat × Int32)) (K : Bool) (e : qEv) (s : qSm) (o : qOu) (W : List (Nat × Nat)) (V : List Int32) (τ : fv_S) (out : Option fv_O) : Prop := match o with
  | .inl f => mFt (mFl1 K e s f) τ out
  | .inr p' => (K = true ∧ ∃ f, (s e).1 = some f ∧ mFt f τ out) ∨ ∃ τ' m1 m2 v V1, out = zB N (q01 K) m1 m2 τ' ∧ mFe τ τ' ∧ n - p' + 2 ≤ m1 ∧ n - p' + 2 ≤ m2 ∧ mC B n L e (qus W v).1 ((qus W v).2 :: V1) p' τ' ∧ V1.length = V.length ∧ (K = true → (s e).1 = none ∧ v = (s e).2 ∧ V1 = V)
def mRs (B : Nat → Nat) (n N : Nat) (L : List (List Nat × Int32)) (K : Bool) (e : qEv) (l : Nat) (s : qSm) (o : qOu) (W : List (Nat × Nat)) (V : List Int32) (τ : fv_S) (out : Option fv_O) : Prop := match o with
  | .inl f => mFt (mFl1 K e s f) τ out
  | .inr p' => (K = true ∧ ∃ f, (s e).1 = some f ∧ mFt f τ out) ∨ ∃ τ' m1 m2 P V', out = zB N (q01 K) m1 m2 τ' ∧ mFe τ τ' ∧ n - p' + 2 ≤ m1 ∧ n - p' + 2 ≤ m2 ∧ mC B n L e (P ++ W) V' p' τ' ∧ mP K e l s V P V'
theorem mRs_t {B : Nat → Nat} {n N : Nat} {L : List (List Nat × Int32)} {K : Bool} {e : qEv} {l : Nat} {s : qSm} {o : qOu} {W : List (Nat × Nat)} {V : List Int32} {τ0 τ : fv_S} {out : Option fv_O} (f : mFe τ0 τ) (h : mRs B n N L K e l s o W V τ out) : mRs B n N L K e l s o W V τ0 out := by
  cases o with
  | inl g => exact mFt_t f h
  | inr p' =>
    rcases h with ⟨h1, g, h2, h3⟩ | ⟨τ', m1, m2, P, V', h1, h2, h3⟩
    · exact Or.inl ⟨h1, g, h2, mFt_t f h3⟩
    · exact Or.inr ⟨τ', m1, m2, P, V', h1, mFe_t f h2, h3⟩
def mNu (W : List (Nat × Nat)) : Prop := ∀ x W', W = x :: W' → x.1 ≠ 2 ∧ x.1 ≠ 3
theorem qus_n {W : List (Nat × Nat)} (h : mNu W) (v : Int32) : qus W v = (W, v) := by
  cases W with
  | nil => rfl
  | cons x W => show (if x.1 = 2 then _ else _) = _; rw [if_neg (h x W rfl).1, if_neg (h x W rfl).2]
theorem qlo_nu {l : Nat} {W : List (Nat × Nat)} (h : qlo l W) : mNu W := by
  intro x W' e
  subst e
  rcases h with h | h
  · omega
  · have := (qmv_bin h.1).2; omega
theorem m_7P {B : Nat → Nat} {n N : Nat} {L : List (List Nat × Int32)} {K : Bool} {e : qEv} {s : qSm} {o : qOu} {W : List (Nat × Nat)} {V : List Int32} {τ : fv_S} {out : Option fv_O} (h : mR7 B n N L K e s o W V τ out) (hW : mNu W) : mRs B n N L K e 7 s o W V τ out := by
  cases o with
  | inl f => exact h
  | inr p' =>
    rcases h with h | ⟨τ', m1, m2, v, V1, h1, h2, h3, h4, h5, hl, h6⟩
    · exact Or.inl h
    · rw [qus_n hW v] at h5
      refine Or.inr ⟨τ', m1, m2, [], v :: V1, h1, h2, h3, h4, h5, fun x hx => absurd hx (by simp), by simp, by simp [hl], fun hK => ⟨fun f hf => ?_, fun hn => ?_⟩⟩
      · rw [(h6 hK).1] at hf; exact absurd hf (by simp)
      · show (Sum.inr (v :: V1) : (Nat × Nat) ⊕ List Int32) = _
        rw [(h6 hK).2.1, (h6 hK).2.2]
theorem mRs_f {B : Nat → Nat} {n N : Nat} {L : List (List Nat × Int32)} {K : Bool} {e : qEv} {l : Nat} {s : qSm} {o : qOu} {W : List (Nat × Nat)} {V : List Int32} {τ : fv_S} {out : Option fv_O} {f : Nat × Nat} (hK : K = true) (hf : (s e).1 = some f) (h : mFt f τ out) : mRs B n N L K e l s o W V τ out := by
  cases o with
  | inl g => show mFt (mFl1 K e s g) τ out; unfold mFl1; rw [if_pos hK, hf]; exact h
  | inr p' => exact Or.inl ⟨hK, f, hf, h⟩
theorem qlo_s {l : Nat} {W : List (Nat × Nat)} (h : qlo l W) : qlo (l + 1) W := by
  cases W with
  | nil => exact trivial
  | cons x W => rcases h with h | h; exact Or.inl h; exact Or.inr ⟨h.1, by omega⟩
theorem mPr_s {l d : Nat} {W : List (Nat × Nat)} {V : List Int32} (h1 : 1 ≤ l) (h6 : l ≤ 6) (h : mPr l d W V) : mPr (l + 1) d W V := ⟨by have := h.1; omega, h.2.1, h.2.2.1, h.2.2.2.1, h.2.2.2.2.1, fun _ => qlo_s (h.2.2.2.2.2 h6)⟩
theorem mP_s {K : Bool} {e : qEv} {l : Nat} {s : qSm} {V : List Int32} {P : List (Nat × Nat)} {V' : List Int32} (h : mP K e (l + 1) s V P V') : mP K e l s V P V' := ⟨fun x hx => by have := h.1 x hx; omega, by have := h.2.1; omega, h.2.2⟩
def mQ (B : Nat → Nat) (n N : Nat) (L : List (List Nat × Int32)) (K : Bool) (e : qEv) (a : Option qSm) (l d p : Nat) (s : qSm) (o : qOu) : Prop := match a with
  | none => ∀ W V τ m, mC B n L e W V p τ → mPr l d W V → n - p + 2 ≤ m → (l = 7 → mR7 B n N L K e s o W V τ (zX8_expression_15 N m (q01 K) τ)) ∧ (mNu W → mRs B n N L K e l s o W V τ (zX8_expression_15 N m (q01 K) τ))
  | some s0 => ∀ W V P0 V0 τ m1 m2, mC B n L e (P0 ++ W) V0 p τ → mPr l d W V → mP K e l s0 V P0 V0 → n - p + 2 ≤ m1 → n - p + 2 ≤ m2 → mRs B n N L K e l s o W V τ (zB N (q01 K) m1 m2 τ)
theorem m_H0 {B : Nat → Nat} {n p : Nat} (hS : qS B n) {τ : fv_S} (hp : p ≤ n) (k : qMt B (qT B n p) τ) (N m : Nat) (x1 : Int32) (h : (qT B n p).1 ≠ 40 ∧ (qT B n p).1 ≠ 45 ∧ (qT B n p).1 ≠ 126) : zX8_expression_15 N (m + 1) x1 τ = fv_bi (zX8_operand N x1 τ) (fun r19 σ18 => if ¬ r19 = 0 then zB N x1 m N σ18 else fv_ri 0 σ18) fv_no := by
  have hb := qT_b hS p hp
  show zX8_expression_15_b _ _ _ _ = _
  unfold zX8_expression_15_b
  rw [show zX8_isSign 40 τ = _ from m_sgn hb k.1 40 rfl, fv_bi_ri, show ((qT B n p).1 == 40) = false by simp [h.1], if_neg (show ¬ ¬ q01 false = 0 by decide), show zX8_isSign 45 τ = _ from m_sgn hb k.1 45 rfl, fv_bi_ri, show ((qT B n p).1 == 45) = false by simp [h.2.1], if_neg (show ¬ ¬ q01 false = 0 by decide), show zX8_isSign 126 τ = _ from m_sgn hb k.1 126 rfl, fv_bi_ri, show ((qT B n p).1 == 126) = false by simp [h.2.2], if_pos (show q01 false = 0 by decide)]
  rfl
theorem m_H1 {B : Nat → Nat} {n p : Nat} (hS : qS B n) {τ : fv_S} (hp : p ≤ n) (k : qMt B (qT B n p) τ) (N m : Nat) (x1 : Int32) (h : (qT B n p).1 = 40 ∨ (qT B n p).1 = 45 ∨ (qT B n p).1 = 126) : zX8_expression_15 N (m + 1) x1 τ = zX8_expression_42 N (zX8_expression_15 N m) x1 τ := by
  have hb := qT_b hS p hp
  show zX8_expression_15_b _ _ _ _ = _
  unfold zX8_expression_15_b
  rw [show zX8_isSign 40 τ = _ from m_sgn hb k.1 40 rfl, fv_bi_ri]
  by_cases c : (qT B n p).1 = 40
  · rw [show ((qT B n p).1 == 40) = true by simp [c], if_pos (show ¬ q01 true = 0 by decide)]
  rw [show ((qT B n p).1 == 40) = false by simp [c], if_neg (show ¬ ¬ q01 false = 0 by decide), show zX8_isSign 45 τ = _ from m_sgn hb k.1 45 rfl, fv_bi_ri]
  by_cases c2 : (qT B n p).1 = 45
  · rw [show ((qT B n p).1 == 45) = true by simp [c2], if_pos (show ¬ q01 true = 0 by decide)]
  rw [show ((qT B n p).1 == 45) = false by simp [c2], if_neg (show ¬ ¬ q01 false = 0 by decide), show zX8_isSign 126 τ = _ from m_sgn hb k.1 126 rfl, fv_bi_ri, show ((qT B n p).1 == 126) = true by simp; omega, if_neg (show ¬ q01 true = 0 by decide)]
theorem m_108 {B : Nat → Nat} {n N p : Nat} (hS : qS B n) (hN : 7000 ≤ N) {L : List (List Nat × Int32)} {e : qEv} {W : List (Nat × Nat)} {V : List Int32} {τ : fv_S} (h : mC B n L e W V p τ) (hl : W.length ≤ 390) (hv : V.length < 390) (hk : ∀ x, x ∈ W → x.1 < 256) (x1 v : Int32) : ∃ τ', zX8_operand_108 N x1 v τ = fv_ri 1 τ' ∧ mFe τ τ' ∧ mC B n L e (qus W v).1 ((qus W v).2 :: V) (qT B n p).2.2.1 τ' := by
  have hs := h.2.2.2.2.2.1
  have hp := h.2.2.2.2.2.2.2
  have hb := qT_b hS p hp
  obtain ⟨j1, j2⟩ := p_inN V.length 400 (by omega) (by omega)
  have f1 : mFs τ (fv_si (fv_sa τ 7 (Int32.ofNat V.length) v) 18 (Int32.ofNat (V.length + 1))) := ⟨fun k _ h2 _ => if_neg h2, rfl, fun a _ _ h3 => s_an _ _ _ _ _ h3, rfl⟩
  have s1 : mS W (v :: V) (fv_si (fv_sa τ 7 (Int32.ofNat V.length) v) 18 (Int32.ofNat (V.length + 1))) := by
    refine ⟨mW_c W τ _ (fun i _ => ⟨congrFun (s_an _ _ _ _ _ (by omega)) i, congrFun (s_an _ _ _ _ _ (by omega)) i⟩) hs.1, ⟨?_, mV_c V τ _ (fun i hi => s_ai _ _ _ _ _ (by rw [j2]; omega)) hs.2.1⟩, hs.2.2.1, rfl, hs.2.2.2.2⟩
    have := s_ak τ 7 (Int32.ofNat V.length) v
    rw [j2] at this; exact this
  have c1 := mC_s h f1 s1
  obtain ⟨τ2, x2, f2, k2⟩ := m_go hS hN hp c1.1 c1.2.2.2.2.1
  have c2 := mC_n c1 f2 k2 hb.2.2.1
  obtain ⟨τ3, x3, s3, f3⟩ := m_una N x1 W v V τ2 N c2.2.2.2.2.2.1 hk (by omega) (by omega) (by omega)
  refine ⟨τ3, ?_, mFe_t (mFe_t (mFe_s f1) (mFe_q f2)) (mFe_s f3), mC_s c2 f3 s3⟩
  unfold zX8_operand_108 zX8_unaries
  rw [hs.2.2.2.1, if_pos j1, p_sucN, x2, fv_bv_rv, x3, fv_bi_ri, if_pos (Or.inr rfl)]
theorem m_e84 {B : Nat → Nat} {n N p : Nat} (hS : qS B n) (hN : 7000 ≤ N) {L : List (List Nat × Int32)} {e : qEv} {W : List (Nat × Nat)} {V : List Int32} {τ : fv_S} (h : mC B n L e W V p τ) (hl : W.length < 390) (k15 : Int32 → fv_S → Option fv_O) (x1 : Int32) (c : Nat) (hc : 1 ≤ c ∧ c ≤ 3) : ∃ τ', zX8_expression_84 N k15 x1 (Int32.ofNat c) τ = k15 x1 τ' ∧ mFe τ τ' ∧ mC B n L e ((c, (qT B n p).2.1) :: W) V (qT B n p).2.2.1 τ' := by
  have hs := h.2.2.2.2.2.1
  have hp := h.2.2.2.2.2.2.2
  have hb := qT_b hS p hp
  have ec : qmv c = c := by unfold qmv; rw [if_neg (by omega), if_neg (by omega)]
  obtain ⟨τ1, x1', w1, v1, a1, a2, a3, f1⟩ := m_psh hs c (qT B n p).2.1 (by omega) h.2.2.2.2.1.1.2.2.1
  rw [ec] at x1'
  have f2 : mFs τ (fv_si τ1 19 (Int32.ofNat (qop W + 1))) := ⟨fun k h1 h2 h3 => (if_neg h3).trans (f1.1 k h1 h2 h3), f1.2.1, f1.2.2.1, f1.2.2.2⟩
  have s2 : mS ((c, (qT B n p).2.1) :: W) V (fv_si τ1 19 (Int32.ofNat (qop W + 1))) := by
    refine ⟨mW_c _ τ1 _ (fun _ _ => ⟨rfl, rfl⟩) w1, mV_c V τ1 _ (fun _ _ => rfl) v1, a1, a2, ?_⟩
    show Int32.ofNat (qop W + 1) = Int32.ofNat ((if c ≤ 3 then 1 else 0) + qop W)
    rw [if_pos hc.2, Nat.add_comm]
  have c2 := mC_s h f2 s2
  obtain ⟨τ3, x3, f3, k3⟩ := m_go hS hN hp c2.1 c2.2.2.2.2.1
  refine ⟨τ3, ?_, mFe_t (mFe_s f2) (mFe_q f3), mC_n c2 f3 k3 hb.2.2.1⟩
  unfold zX8_expression_84
  rw [x1', fv_bv_rv, a3, p_sucN, x3, fv_bv_rv]
