set_option maxRecDepth 100000
set_option maxHeartbeats 4000000
/-! The plain law: feed. -/
theorem pMQ_c {σ τ σ' τ' : fv_S} (h : pMQ σ τ) (xw : ∀ k, 35 ≤ k → k ≤ 40 → fv_gw σ' k = fv_gw σ k) (xi : ∀ k, 4352 ≤ k → k < 5248 → fv_gi σ' k = fv_gi σ k) (xl : fv_gl σ' 4366 = fv_gl σ 4366) (mw : ∀ k, k = 13 ∨ 23 ≤ k → fv_gw τ' k = fv_gw τ k) (mi : ∀ k, 72 ≤ k → fv_gi τ' k = fv_gi τ k) (ml : fv_gl τ' 86 = fv_gl τ 86) : pMQ σ' τ' := by
  obtain ⟨_, _, r, hr, m, r', o, x, i, u, s, l, hp, hq, _, _⟩ := h
  refine ⟨σ', τ', r, hr, ?_, ?_, ?_, ?_, ?_, ?_, ?_, ?_, ?_, ?_, pFX_r _, pFM_r _⟩
  · rw [xw 35 (by omega) (by omega), mw 13 (by omega)]; exact m
  · rw [xw 36 (by omega) (by omega), mw 23 (by omega)]; exact r'
  · rw [xw 37 (by omega) (by omega), mw 24 (by omega)]; exact o
  · rw [xw 38 (by omega) (by omega), mw 25 (by omega)]; exact x
  · rw [xw 39 (by omega) (by omega), mw 26 (by omega)]; exact i
  · rw [xw 40 (by omega) (by omega), mw 27 (by omega)]; exact u
  · have s1 := pRi_c s (fun k hk => mi k hk)
    unfold pRi at s1 ⊢
    have e : ∀ k, 4352 ≤ k → k < 5248 → σ'.1 k = σ.1 k := xi
    rw [e 4357 (by omega) (by omega), e 4359 (by omega) (by omega), e 4360 (by omega) (by omega), e 4361 (by omega) (by omega), e 4362 (by omega) (by omega), e 4363 (by omega) (by omega), e 4367 (by omega) (by omega), e 4368 (by omega) (by omega), e 4369 (by omega) (by omega), e 4370 (by omega) (by omega)]
    exact s1
  · rw [xl, ml]; exact l
  · rw [xi 4358 (by omega) (by omega)]; exact hp
  · rw [mi 76 (by omega)]; exact hq
theorem pFm_c {σ σ' : fv_S} (g : pFm σ) (e0 : fv_gi σ' 391 = fv_gi σ 391) (e : ∀ k, 4 ≤ k → k ≤ 11 → fv_gw σ' k = fv_gw σ k) : pFm σ' := by
  refine ⟨e0.trans g.1, ?_, ?_⟩
  · intro k hk
    rw [e 9 (by omega) (by omega), e 10 (by omega) (by omega), e 4 (by omega) (by omega), e 5 (by omega) (by omega), e 6 (by omega) (by omega), e 7 (by omega) (by omega), e 8 (by omega) (by omega)]
    exact g.2.1 k hk
  · intro i hi; rw [e 11 (by omega) (by omega)]; exact g.2.2 i hi
/-- only the source is another one -/
theorem pI_src {σ τ σ' τ' : fv_S} (h : pI σ τ) (xi : ∀ k, k ≠ 1665 → fv_gi σ' k = fv_gi σ k) (xw : ∀ k, k ≠ 14 → fv_gw σ' k = fv_gw σ k) (xl : fv_gl σ' 4366 = fv_gl σ 4366) (mi : ∀ k, k ≠ 1 → fv_gi τ' k = fv_gi τ k) (mw : ∀ k, k ≠ 1 → fv_gw τ' k = fv_gw τ k) (ml : fv_gl τ' 86 = fv_gl τ 86) (hs : pSrc σ' τ') (hb : ∀ i, p_se (fv_gw σ' 14 i) = fv_gw σ' 14 i) : pI σ' τ' := by
  obtain ⟨q, f, _, l, t, w, b⟩ := h
  refine ⟨pMQ_c q (fun k h1 h2 => xw k (by omega)) (fun k h1 h2 => xi k (by omega)) xl (fun k hk => mw k (by omega)) (fun k hk => mi k (by omega)) ml, pFm_c f (xi 391 (by omega)) (fun k h1 h2 => xw k (by omega)), hs, ?_, ?_, ?_, ?_⟩
  · unfold pLab; rw [xi 5251 (by omega), mi 51 (by omega), xw 42 (by omega), xw 43 (by omega), xw 44 (by omega), mw 17 (by omega), mw 18 (by omega), mw 19 (by omega)]; exact l
  · unfold pTld; rw [xi 9 (by omega), xi 10 (by omega), xi 11 (by omega), xi 12 (by omega), xi 13 (by omega), mi 46 (by omega), mi 47 (by omega), mi 48 (by omega), mi 49 (by omega), mi 50 (by omega)]; exact t
  · unfold pWri; rw [xi 3841 (by omega), mi 68 (by omega), xw 31 (by omega), mw 21 (by omega)]; exact w
  · intro k hk i
    by_cases c : k = 14
    · subst c; exact hb i
    · rw [xw k c]; exact b k hk i
theorem p_i32a (w : Int64) : Int64.toInt32 (w &&& 255) = Int64.toInt32 w &&& 255 := by
  apply p_ext
  intro i hi
  rw [Int32.toBitVec_and, BitVec.getLsbD_and, Int64.toBitVec_toInt32, Int64.toBitVec_toInt32, BitVec.getLsbD_signExtend, BitVec.getLsbD_signExtend, if_pos (show i < 64 by omega), if_pos (show i < 64 by omega), Int64.toBitVec_and, BitVec.getLsbD_and, p_m8]
  have e : (255 : Int64).toBitVec.getLsbD i = decide (i < 8) := Nat.testBit_two_pow_sub_one 8 i
  rw [e, Bool.and_assoc]
theorem d_feedl (N : Nat) (v : Int64) : ∀ (j s m m' : Nat) (σ τ : fv_S), s + j ≤ 6000 → j ≤ 8 → j + 1 ≤ m → j + 1 ≤ m' → pI σ τ → fv_gi σ 1665 = Int32.ofNat s → fv_gi τ 1 = Int32.ofNat s → ∃ w σ' τ', zX0_feed_50 N m v (Int32.ofNat j - 1) σ = fv_ri w σ' ∧ zX8_feed_44 N m' v (Int32.ofNat j - 1) τ = fv_ri w τ' ∧ pI σ' τ' ∧ fv_n σ' = fv_n σ ∧ fv_n τ' = fv_n τ := by
  intro j
  induction j with
  | zero =>
    intro s m m' σ τ hs hj hm hm' h e1 e2
    obtain ⟨m, rfl⟩ : ∃ k, m = k + 1 := ⟨m - 1, by omega⟩
    obtain ⟨m', rfl⟩ : ∃ k, m' = k + 1 := ⟨m' - 1, by omega⟩
    refine ⟨Int32.ofNat s, σ, τ, ?_, ?_, h, rfl, rfl⟩
    · show zX0_feed_50_b _ _ _ _ _ = _
      unfold zX0_feed_50_b; rw [if_pos (show Int32.ofNat 0 - 1 < 0 by decide), e1]
    · show zX8_feed_44_b _ _ _ _ _ = _
      unfold zX8_feed_44_b; rw [if_pos (show Int32.ofNat 0 - 1 < 0 by decide), e2]
  | succ j ih =>
    intro s m m' σ τ hs hj hm hm' h e1 e2
    obtain ⟨m, rfl⟩ : ∃ k, m = k + 1 := ⟨m - 1, by omega⟩
    obtain ⟨m', rfl⟩ : ∃ k, m' = k + 1 := ⟨m' - 1, by omega⟩
    have ek : Int32.ofNat (j + 1) - 1 = Int32.ofNat j := by
      rw [Int32.ofNat_add]; exact Int32.add_sub_cancel _ _
    have en : ¬ Int32.ofNat j < 0 := by rw [p_lt, p_ofn j (by omega)]; show ¬ (j : Int) < 0; omega
    obtain ⟨i1, i2⟩ := p_inN s 6000 (by omega) (by omega)
    generalize hx : Int64.toInt32 (v >>> (((8 : Int32) * Int32.ofNat j : Int32).toInt64 &&& (63 : Int64))) = x
    have hx2 : Int64.toInt32 ((v >>> (((8 : Int32) * Int32.ofNat j : Int32).toInt64 &&& (63 : Int64))) &&& (255 : Int64)) = x &&& 255 := by rw [p_i32a, hx]
    obtain ⟨n, hn, n1, n2, n3⟩ := h.2.2.1
    have ns : n = s := by
      have := congrArg Int32.toInt (n1.symm.trans e1)
      rw [p_ofn n (by omega), p_ofn s (by omega)] at this; omega
    subst ns
    have hI : pI (fv_sa (fv_si σ 1665 (Int32.ofNat (n + 1))) 14 (Int32.ofNat n) (p_se x)) (fv_si (fv_sa τ 1 (Int32.ofNat n) (x &&& 255)) 1 (Int32.ofNat (n + 1))) := by
      refine pI_src h (fun k hk => if_neg hk) (fun k hk => if_neg hk) rfl (fun k hk => if_neg hk) (fun k hk => if_neg hk) rfl ?_ ?_
      · refine ⟨n + 1, by omega, rfl, rfl, fun i hi => ?_⟩
        show pb (upd (fv_gw τ 1) (Int32.ofNat n).toNatClampNeg (x &&& 255) i) ∧ upd (fv_gw σ 14) (Int32.ofNat n).toNatClampNeg (p_se x) i = p_se (upd (fv_gw τ 1) (Int32.ofNat n).toNatClampNeg (x &&& 255) i)
        unfold upd
        rw [i2]
        by_cases c : i = n
        · rw [if_pos c, if_pos c]; exact ⟨pb_a255 x, (p_se_a x).symm⟩
        · rw [if_neg c, if_neg c]; exact n3 i (by omega)
      · intro i
        show p_se (upd (fv_gw σ 14) (Int32.ofNat n).toNatClampNeg (p_se x) i) = upd (fv_gw σ 14) (Int32.ofNat n).toNatClampNeg (p_se x) i
        unfold upd
        split
        · exact p_se_se x
        · exact h.2.2.2.2.2.2 14 (Or.inl rfl) i
    obtain ⟨w, σ', τ', x1, y1, q, f1, f2⟩ := ih (n + 1) m m' _ _ (by omega) (by omega) (by omega) (by omega) hI rfl rfl
    refine ⟨w, σ', τ', ?_, ?_, q, f1, f2⟩
    · show zX0_feed_50_b _ _ _ _ _ = _
      unfold zX0_feed_50_b
      rw [ek, if_neg en, e1, if_pos i1, hx, p_sucN, show Int32.ofNat j + ((-1) : Int32) = Int32.ofNat j - 1 from (Int32.sub_eq_add_neg _ _).symm]
      rw [show (Int32.toInt8 ((Int32.toInt8 x).toInt32)).toInt32 = p_se x from p_se_se x]; exact x1
    · show zX8_feed_44_b _ _ _ _ _ = _
      unfold zX8_feed_44_b
      rw [ek, if_neg en, e2, if_pos i1, hx2, p_sucN, show Int32.ofNat j + ((-1) : Int32) = Int32.ofNat j - 1 from (Int32.sub_eq_add_neg _ _).symm]; exact y1
theorem d_feed {σ τ : fv_S} (h : pI σ τ) (v : Int64) (x : Int32) : ∃ w σ' τ', zX0_feed 20 v x σ = fv_ri w σ' ∧ zX8_feed 20 v x τ = fv_ri w τ' ∧ pI σ' τ' ∧ fv_n σ' = fv_n σ ∧ fv_n τ' = fv_n τ := by
  obtain ⟨n, hn, n1, n2, n3⟩ := h.2.2.1
  unfold zX0_feed zX8_feed
  rw [x_isIn x (lo := 0) (hi := 8) rfl rfl, fv_bi_ri]
  by_cases c0 : 0 ≤ x.toInt
  · rw [if_neg (show ¬ x < 0 by rw [p_lt]; show ¬ x.toInt < 0; omega)]
    by_cases c1 : x.toInt ≤ 8
    · rw [if_pos (show p_R 0 8 x from ⟨c0, c1⟩), if_pos (by decide), if_pos (show x ≤ 8 by rw [p_le]; exact c1)]
      obtain ⟨j, hj, rfl⟩ := p_rng 9 (by omega) c0 (by omega)
      unfold zX0_feed_27
      by_cases cj : j = 0
      · subst cj
        rw [if_neg (show ¬ ¬ Int32.ofNat 0 = 0 from not_not_intro rfl), if_neg (show ¬ ¬ Int32.ofNat 0 = 0 from not_not_intro rfl)]
        have hI : pI (fv_si σ 1665 0) (fv_si τ 1 0) := pI_src h (fun k hk => if_neg hk) (fun _ _ => rfl) rfl (fun k hk => if_neg hk) (fun _ _ => rfl) rfl ⟨0, by omega, rfl, rfl, fun i hi => absurd hi (by omega)⟩ (h.2.2.2.2.2.2 14 (Or.inl rfl))
        refine ⟨0, _, _, ?_, rfl, hI, rfl, rfl⟩
        rw [if_pos (show fv_gi (fv_si σ 1665 0) 1665 + Int32.ofNat 0 ≤ 6000 from (by decide : (0 : Int32) + Int32.ofNat 0 ≤ 6000))]
        show zX0_feed_50_b _ _ _ _ _ = _
        unfold zX0_feed_50_b; rw [if_pos (show Int32.ofNat 0 - 1 < 0 by decide)]; rfl
      · have nz : ¬ Int32.ofNat j = 0 := by
          intro e; have := congrArg Int32.toInt e; rw [p_ofn j (by omega)] at this; simp at this; omega
        rw [if_pos nz, if_pos nz, n1, n2, ← Int32.ofNat_add]
        by_cases c6 : n + j ≤ 6000
        · rw [if_pos (show Int32.ofNat (n + j) ≤ 6000 from (p_leN (n + j) 6000 (by omega) (by omega)).2 c6), if_pos (show Int32.ofNat (n + j) ≤ 6000 from (p_leN (n + j) 6000 (by omega) (by omega)).2 c6)]
          exact d_feedl 20 v j n 20 20 σ τ c6 (by omega) (by omega) (by omega) h n1 n2
        · have nl : ¬ Int32.ofNat (n + j) ≤ 6000 := fun e => c6 ((p_leN (n + j) 6000 (by omega) (by omega)).1 e)
          rw [if_neg nl, if_neg nl]
          exact ⟨-4, _, _, rfl, rfl, h, rfl, rfl⟩
    · rw [if_neg (show ¬ p_R 0 8 x from fun e => c1 e.2), if_neg (by decide), if_neg (show ¬ x ≤ 8 by rw [p_le]; exact c1)]
      exact ⟨-2, _, _, rfl, rfl, h, rfl, rfl⟩
  · rw [if_neg (show ¬ p_R 0 8 x from fun e => c0 e.1), if_neg (by decide), if_pos (show x < 0 by rw [p_lt]; show x.toInt < 0; omega)]
    exact ⟨-2, _, _, rfl, rfl, h, rfl, rfl⟩
