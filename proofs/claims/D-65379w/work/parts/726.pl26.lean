set_option maxRecDepth 100000
set_option maxHeartbeats 4000000
/-! The plain law: what the class and the model have in common between two calls; the calls that only tell; feed. -/
def pSrc (σ τ : fv_S) : Prop := ∃ n, n ≤ 6000 ∧ fv_gi σ 1665 = Int32.ofNat n ∧ fv_gi τ 1 = Int32.ofNat n ∧ ∀ i, i < n → pb (fv_gw τ 1 i) ∧ fv_gw σ 14 i = p_se (fv_gw τ 1 i)
def pLab (σ τ : fv_S) : Prop := ∃ n, n ≤ 200 ∧ fv_gi σ 5251 = Int32.ofNat n ∧ fv_gi τ 51 = Int32.ofNat n ∧ ∀ i, i < n → fv_gw σ 44 i = fv_gw τ 19 i ∧ ∃ l, l ≤ 12 ∧ fv_gw σ 43 i = Int32.ofNat l ∧ fv_gw τ 18 i = Int32.ofNat l ∧ ∀ k, k < l → fv_gw σ 42 (12 * i + k) = fv_gw τ 17 (12 * i + k)
def pTld (σ τ : fv_S) : Prop := fv_gi σ 9 = fv_gi τ 46 ∧ fv_gi σ 10 = fv_gi τ 47 ∧ fv_gi σ 11 = fv_gi τ 48 ∧ fv_gi σ 12 = fv_gi τ 49 ∧ fv_gi σ 13 = fv_gi τ 50
def pWri (σ τ : fv_S) : Prop := ∃ n, n ≤ 40 ∧ fv_gi σ 3841 = Int32.ofNat n ∧ fv_gi τ 68 = Int32.ofNat n ∧ ∀ i, i < n → fv_gw σ 31 i = fv_gw τ 21 i
def p_bn (k : Nat) : Prop := k = 14 ∨ k = 17 ∨ k = 31 ∨ k = 33 ∨ k = 45
def pByt (σ : fv_S) : Prop := ∀ k, p_bn k → ∀ i, p_se (fv_gw σ k i) = fv_gw σ k i
def pI (σ τ : fv_S) : Prop := pMQ σ τ ∧ pFm σ ∧ pSrc σ τ ∧ pLab σ τ ∧ pTld σ τ ∧ pWri σ τ ∧ pByt σ
theorem pI_op {σ τ σ' τ' : fv_S} (h : pI σ τ) (o : pOp σ τ σ' τ') : pI σ' τ' := by
  obtain ⟨_, hf, hs, hl, ht, hw, hb⟩ := h
  obtain ⟨q, fx, fo⟩ := o
  have xi : ∀ k, k < 4352 ∨ 5248 ≤ k → fv_gi σ' k = fv_gi σ k := fx.1
  have xw : ∀ k, k < 35 ∨ 40 < k → fv_gw σ' k = fv_gw σ k := fx.2.1
  have mi : ∀ k, k < 59 ∨ (64 < k ∧ k < 72) → fv_gi τ' k = fv_gi τ k := fo.1
  have mw : ∀ k, k < 23 → k ≠ 13 → fv_gw τ' k = fv_gw τ k := fo.2.1
  refine ⟨q, pFm_f fx hf, ?_, ?_, ?_, ?_, ?_⟩
  · unfold pSrc; rw [xi 1665 (by omega), mi 1 (by omega), xw 14 (by omega), mw 1 (by omega) (by omega)]; exact hs
  · unfold pLab; rw [xi 5251 (by omega), mi 51 (by omega), xw 42 (by omega), xw 43 (by omega), xw 44 (by omega), mw 17 (by omega) (by omega), mw 18 (by omega) (by omega), mw 19 (by omega) (by omega)]; exact hl
  · unfold pTld; rw [xi 9 (by omega), xi 10 (by omega), xi 11 (by omega), xi 12 (by omega), xi 13 (by omega), mi 46 (by omega), mi 47 (by omega), mi 48 (by omega), mi 49 (by omega), mi 50 (by omega)]; exact ht
  · unfold pWri; rw [xi 3841 (by omega), mi 68 (by omega), xw 31 (by omega), mw 21 (by omega) (by omega)]; exact hw
  · intro k hk i; rw [xw k (by unfold p_bn at hk; omega)]; exact hb k hk i
theorem d_told {σ τ : fv_S} (h : pI σ τ) (x : Int32) : ∃ w, zX0_told x σ = fv_ri w σ ∧ zX8_told x τ = fv_ri w τ := by
  obtain ⟨_, _, _, ⟨n, _, l1, l2, _⟩, ⟨t1, t2, t3, t4, t5⟩, _⟩ := h
  unfold zX0_told zX8_told
  rw [t1, t2, t3, t4, t5, l1, l2]
  by_cases c0 : x = 0
  · rw [if_pos c0, if_pos c0]; exact ⟨_, rfl, rfl⟩
  · rw [if_neg c0, if_neg c0]
    by_cases c1 : x = 1
    · rw [if_pos c1, if_pos c1]; exact ⟨_, rfl, rfl⟩
    · rw [if_neg c1, if_neg c1]
      by_cases c2 : x = 2
      · rw [if_pos c2, if_pos c2]; exact ⟨_, rfl, rfl⟩
      · rw [if_neg c2, if_neg c2]
        by_cases c3 : x = 3
        · rw [if_pos c3, if_pos c3]; exact ⟨_, rfl, rfl⟩
        · rw [if_neg c3, if_neg c3]
          by_cases c4 : x = 4
          · rw [if_pos c4, if_pos c4]; exact ⟨_, rfl, rfl⟩
          · rw [if_neg c4, if_neg c4]
            by_cases c5 : x = 5
            · rw [if_pos c5, if_pos c5]; exact ⟨_, rfl, rfl⟩
            · rw [if_neg c5, if_neg c5]; exact ⟨_, rfl, rfl⟩
theorem p_cnt1 (n : Nat) (h : n < 2147483647) : (Int32.toInt64 (Int32.ofNat n - 1)).toInt = (n : Int) - 1 := by
  rw [p_i64]
  cases n with
  | zero => rfl
  | succ m =>
    rw [Int32.ofNat_add]
    rw [show Int32.ofNat m + Int32.ofNat 1 - 1 = Int32.ofNat m from Int32.add_sub_cancel _ _, p_ofn m (by omega)]; omega
theorem d_label {σ τ : fv_S} (h : pI σ τ) (x : Int32) : ∃ w, zX0_label x σ = fv_ri w σ ∧ zX8_label x τ = fv_ri w τ := by
  obtain ⟨_, _, _, ⟨n, hn, l1, l2, l3⟩, _⟩ := h
  unfold zX0_label zX8_label
  rw [l1, l2, x_isIn x (lo := 0) (hi := (n : Int) - 1) rfl (p_cnt1 n (by omega)), fv_bi_ri]
  by_cases c0 : 0 ≤ x.toInt
  · rw [if_neg (show ¬ x < 0 by rw [p_lt]; show ¬ x.toInt < 0; omega)]
    by_cases c1 : x.toInt ≤ (n : Int) - 1
    · obtain ⟨i, hi, rfl⟩ := p_rng n (by omega) c0 (by omega)
      obtain ⟨i1, i2⟩ := p_inN i 200 (by omega) (by omega)
      rw [if_pos (show p_R 0 ((n : Int) - 1) (Int32.ofNat i) from ⟨c0, c1⟩), if_neg (by decide), if_pos i1, if_neg (show ¬ Int32.ofNat n ≤ Int32.ofNat i from fun e => by have := (p_leN n i (by omega) (by omega)).1 e; omega), if_pos i1]
      refine ⟨fv_ga τ 19 (Int32.ofNat i), ?_, rfl⟩
      show fv_ri (fv_gw σ 44 (Int32.ofNat i).toNatClampNeg) σ = fv_ri (fv_gw τ 19 (Int32.ofNat i).toNatClampNeg) σ
      rw [i2, (l3 i hi).1]
    · rw [if_neg (show ¬ p_R 0 ((n : Int) - 1) x from fun e => c1 e.2), if_pos rfl, if_pos (show Int32.ofNat n ≤ x by rw [p_le, p_ofn n (by omega)]; omega)]
      exact ⟨0, rfl, rfl⟩
  · rw [if_neg (show ¬ p_R 0 ((n : Int) - 1) x from fun e => c0 e.1), if_pos rfl, if_pos (show x < 0 by rw [p_lt]; show x.toInt < 0; omega)]
    exact ⟨0, rfl, rfl⟩
theorem p_12 (i k : Nat) (hi : i < 200) (hk : k < 12) : (12 : Int32) * Int32.ofNat i + Int32.ofNat k = Int32.ofNat (12 * i + k) := by
  rw [Int32.ofNat_add, Int32.ofNat_mul]; rfl
theorem d_labelSign {σ τ : fv_S} (h : pI σ τ) (x y : Int32) : ∃ w, zX0_labelSign x y σ = fv_ri w σ ∧ zX8_labelSign x y τ = fv_ri w τ := by
  obtain ⟨_, _, _, ⟨n, hn, l1, l2, l3⟩, _⟩ := h
  unfold zX0_labelSign zX8_labelSign
  rw [l1, l2, x_isIn x (lo := 0) (hi := (n : Int) - 1) rfl (p_cnt1 n (by omega)), fv_bi_ri]
  by_cases c0 : 0 ≤ x.toInt
  · rw [if_neg (show ¬ x < 0 by rw [p_lt]; show ¬ x.toInt < 0; omega)]
    by_cases c1 : x.toInt ≤ (n : Int) - 1
    · obtain ⟨i, hi, rfl⟩ := p_rng n (by omega) c0 (by omega)
      obtain ⟨i1, i2⟩ := p_inN i 200 (by omega) (by omega)
      obtain ⟨_, l, hl, a1, a2, a3⟩ := l3 i hi
      have b1 : fv_ga σ 43 (Int32.ofNat i) = Int32.ofNat l := by show fv_gw σ 43 (Int32.ofNat i).toNatClampNeg = _; rw [i2]; exact a1
      have b2 : fv_ga τ 18 (Int32.ofNat i) = Int32.ofNat l := by show fv_gw τ 18 (Int32.ofNat i).toNatClampNeg = _; rw [i2]; exact a2
      rw [if_pos (show p_R 0 ((n : Int) - 1) (Int32.ofNat i) from ⟨c0, c1⟩), if_neg (by decide), if_pos i1, if_neg (show ¬ Int32.ofNat n ≤ Int32.ofNat i from fun e => by have := (p_leN n i (by omega) (by omega)).1 e; omega), b1, b2]
      rw [x_isIn y (lo := 0) (hi := (l : Int) - 1) rfl (p_cnt1 l (by omega)), fv_bi_ri]
      by_cases d0 : 0 ≤ y.toInt
      · rw [if_neg (show ¬ y < 0 by rw [p_lt]; show ¬ y.toInt < 0; omega), if_pos i1]
        by_cases d1 : y.toInt ≤ (l : Int) - 1
        · obtain ⟨k, hk, rfl⟩ := p_rng l (by omega) d0 (by omega)
          obtain ⟨j1, j2⟩ := p_inN (12 * i + k) 2400 (by omega) (by omega)
          rw [if_pos (show p_R 0 ((l : Int) - 1) (Int32.ofNat k) from ⟨d0, d1⟩), if_neg (by decide), if_neg (show ¬ Int32.ofNat l ≤ Int32.ofNat k from fun e => by have := (p_leN l k (by omega) (by omega)).1 e; omega), p_12 i k (by omega) (by omega), if_pos j1, if_pos j1]
          refine ⟨fv_ga τ 17 (Int32.ofNat (12 * i + k)), ?_, rfl⟩
          show fv_ri (fv_gw σ 42 (Int32.ofNat (12 * i + k)).toNatClampNeg) σ = fv_ri (fv_gw τ 17 (Int32.ofNat (12 * i + k)).toNatClampNeg) σ
          rw [j2, a3 k hk]
        · rw [if_neg (show ¬ p_R 0 ((l : Int) - 1) y from fun e => d1 e.2), if_pos rfl, if_pos (show Int32.ofNat l ≤ y by rw [p_le, p_ofn l (by omega)]; omega)]
          exact ⟨-1, rfl, rfl⟩
      · rw [if_neg (show ¬ p_R 0 ((l : Int) - 1) y from fun e => d0 e.1), if_pos rfl, if_pos (show y < 0 by rw [p_lt]; show y.toInt < 0; omega)]
        exact ⟨-1, rfl, rfl⟩
    · rw [if_neg (show ¬ p_R 0 ((n : Int) - 1) x from fun e => c1 e.2), if_pos rfl, if_pos (show Int32.ofNat n ≤ x by rw [p_le, p_ofn n (by omega)]; omega)]
      exact ⟨-1, rfl, rfl⟩
  · rw [if_neg (show ¬ p_R 0 ((n : Int) - 1) x from fun e => c0 e.1), if_pos rfl, if_pos (show x < 0 by rw [p_lt]; show x.toInt < 0; omega)]
    exact ⟨-1, rfl, rfl⟩
theorem d_sign {σ τ : fv_S} (h : pI σ τ) (x : Int32) : ∃ w, zX0_sign x σ = fv_ri w σ ∧ zX8_sign x τ = fv_ri w τ := by
  obtain ⟨_, _, _, _, _, ⟨n, hn, l1, l2, l3⟩, _⟩ := h
  unfold zX0_sign zX8_sign
  rw [l1, l2, x_isIn x (lo := 0) (hi := (n : Int) - 1) rfl (p_cnt1 n (by omega)), fv_bi_ri]
  by_cases c0 : 0 ≤ x.toInt
  · rw [if_neg (show ¬ x < 0 by rw [p_lt]; show ¬ x.toInt < 0; omega)]
    by_cases c1 : x.toInt ≤ (n : Int) - 1
    · obtain ⟨i, hi, rfl⟩ := p_rng n (by omega) c0 (by omega)
      obtain ⟨i1, i2⟩ := p_inN i 64 (by omega) (by omega)
      obtain ⟨i3, _⟩ := p_inN i 40 (by omega) (by omega)
      rw [if_pos (show p_R 0 ((n : Int) - 1) (Int32.ofNat i) from ⟨c0, c1⟩), if_neg (by decide), if_pos i1, if_neg (show ¬ Int32.ofNat n ≤ Int32.ofNat i from fun e => by have := (p_leN n i (by omega) (by omega)).1 e; omega), if_pos i3]
      refine ⟨fv_ga τ 21 (Int32.ofNat i), ?_, rfl⟩
      show fv_ri (fv_gw σ 31 (Int32.ofNat i).toNatClampNeg) σ = fv_ri (fv_gw τ 21 (Int32.ofNat i).toNatClampNeg) σ
      rw [i2, l3 i hi]
    · rw [if_neg (show ¬ p_R 0 ((n : Int) - 1) x from fun e => c1 e.2), if_pos rfl, if_pos (show Int32.ofNat n ≤ x by rw [p_le, p_ofn n (by omega)]; omega)]
      exact ⟨-1, rfl, rfl⟩
  · rw [if_neg (show ¬ p_R 0 ((n : Int) - 1) x from fun e => c0 e.1), if_pos rfl, if_pos (show x < 0 by rw [p_lt]; show x.toInt < 0; omega)]
    exact ⟨-1, rfl, rfl⟩
theorem d_sourceAt {σ τ : fv_S} (h : pI σ τ) (x : Int32) : ∃ w, zX0_sourceAt x σ = fv_ri w σ ∧ zX8_sourceAt x τ = fv_ri w τ := by
  obtain ⟨_, _, ⟨n, hn, l1, l2, l3⟩, _⟩ := h
  unfold zX0_sourceAt zX8_sourceAt
  rw [l1, l2, x_isIn x (lo := 0) (hi := (n : Int) - 1) rfl (p_cnt1 n (by omega)), fv_bi_ri]
  by_cases c0 : 0 ≤ x.toInt
  · rw [if_neg (show ¬ x < 0 by rw [p_lt]; show ¬ x.toInt < 0; omega)]
    by_cases c1 : x.toInt ≤ (n : Int) - 1
    · obtain ⟨i, hi, rfl⟩ := p_rng n (by omega) c0 (by omega)
      obtain ⟨i1, i2⟩ := p_inN i 6000 (by omega) (by omega)
      rw [if_pos (show p_R 0 ((n : Int) - 1) (Int32.ofNat i) from ⟨c0, c1⟩), if_neg (by decide), if_pos i1, if_neg (show ¬ Int32.ofNat n ≤ Int32.ofNat i from fun e => by have := (p_leN n i (by omega) (by omega)).1 e; omega), if_pos i1]
      refine ⟨fv_ga τ 1 (Int32.ofNat i), ?_, rfl⟩
      show fv_ri (fv_gw σ 14 (Int32.ofNat i).toNatClampNeg &&& 255) σ = fv_ri (fv_gw τ 1 (Int32.ofNat i).toNatClampNeg) σ
      rw [i2, (l3 i hi).2, p_se255 (l3 i hi).1]
    · rw [if_neg (show ¬ p_R 0 ((n : Int) - 1) x from fun e => c1 e.2), if_pos rfl, if_pos (show Int32.ofNat n ≤ x by rw [p_le, p_ofn n (by omega)]; omega)]
      exact ⟨-1, rfl, rfl⟩
  · rw [if_neg (show ¬ p_R 0 ((n : Int) - 1) x from fun e => c0 e.1), if_pos rfl, if_pos (show x < 0 by rw [p_lt]; show x.toInt < 0; omega)]
    exact ⟨-1, rfl, rfl⟩
