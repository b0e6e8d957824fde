set_option maxRecDepth 100000
set_option maxHeartbeats 4000000
/-! The plain law: write. -/
theorem pI_gen {σ τ σ' τ' : fv_S} (h : pI σ τ) (xi : ∀ k, (k = 391 ∨ (9 ≤ k ∧ k ≤ 13) ∨ k = 5251 ∨ (4352 ≤ k ∧ k < 5248)) → fv_gi σ' k = fv_gi σ k) (xw : ∀ k, ((4 ≤ k ∧ k ≤ 11) ∨ (35 ≤ k ∧ k ≤ 44)) → fv_gw σ' k = fv_gw σ k) (xl : fv_gl σ' 4366 = fv_gl σ 4366)
    (mi : ∀ k, ((46 ≤ k ∧ k ≤ 51) ∨ 72 ≤ k) → fv_gi τ' k = fv_gi τ k) (mw : ∀ k, (k = 13 ∨ k = 17 ∨ k = 18 ∨ k = 19 ∨ 23 ≤ k) → fv_gw τ' k = fv_gw τ k) (ml : fv_gl τ' 86 = fv_gl τ 86) (hs : pSrc σ' τ') (hw : pWri σ' τ') (hb : pByt σ') : pI σ' τ' := by
  obtain ⟨q, f, _, l, t, _, _⟩ := h
  refine ⟨pMQ_c q (fun k h1 h2 => xw k (by omega)) (fun k h1 h2 => xi k (by omega)) xl (fun k hk => mw k (by omega)) (fun k hk => mi k (by omega)) ml, pFm_c f (xi 391 (by omega)) (fun k h1 h2 => xw k (by omega)), hs, ?_, ?_, hw, hb⟩
  · unfold pLab; rw [xi 5251 (by omega), mi 51 (by omega), xw 42 (by omega), xw 43 (by omega), xw 44 (by omega), mw 17 (by omega), mw 18 (by omega), mw 19 (by omega)]; exact l
  · unfold pTld; rw [xi 9 (by omega), xi 10 (by omega), xi 11 (by omega), xi 12 (by omega), xi 13 (by omega), mi 46 (by omega), mi 47 (by omega), mi 48 (by omega), mi 49 (by omega), mi 50 (by omega)]; exact t
theorem m_wr29 (N n : Nat) (r : Int32) (hn : n ≤ 40) : ∀ (d k m : Nat) (τ : fv_S), n - k = d → k ≤ n → d + 1 ≤ m → fv_gi τ 66 = Int32.ofNat n → ∃ τ', zX8_write_29 N m r (Int32.ofNat k) τ = fv_ri r τ' ∧ τ'.1 = τ.1 ∧ τ'.2.1 = τ.2.1 ∧ fv_n τ' = fv_n τ ∧ (∀ j, j ≠ 21 → fv_gw τ' j = fv_gw τ j) ∧ (∀ i, i < k → fv_gw τ' 21 i = fv_gw τ 21 i) ∧ (∀ i, k ≤ i → i < n → fv_gw τ' 21 i = fv_gw τ 20 i) := by
  intro d
  induction d with
  | zero =>
    intro k m τ e hk hm h
    obtain ⟨m, rfl⟩ : ∃ j, m = j + 1 := ⟨m - 1, by omega⟩
    refine ⟨τ, ?_, rfl, rfl, rfl, fun _ _ => rfl, fun _ _ => rfl, fun i h1 h2 => absurd h2 (by omega)⟩
    show zX8_write_29_b _ _ _ _ _ = _
    unfold zX8_write_29_b
    rw [h, if_pos ((p_leN n k (by omega) (by omega)).2 (by omega))]
  | succ d ih =>
    intro k m τ e hk hm h
    obtain ⟨m, rfl⟩ : ∃ j, m = j + 1 := ⟨m - 1, by omega⟩
    obtain ⟨i1, i2⟩ := p_inN k 40 (by omega) (by omega)
    obtain ⟨τ', x, a1, a2, a3, a4, a5, a6⟩ := ih (k + 1) m (fv_sa τ 21 (Int32.ofNat k) (fv_ga τ 20 (Int32.ofNat k))) (by omega) (by omega) (by omega) h
    have v : ∀ i, fv_gw (fv_sa τ 21 (Int32.ofNat k) (fv_ga τ 20 (Int32.ofNat k))) 21 i = if i = k then fv_gw τ 20 k else fv_gw τ 21 i := by
      intro i
      show upd (fv_gw τ 21) (Int32.ofNat k).toNatClampNeg (fv_gw τ 20 (Int32.ofNat k).toNatClampNeg) i = _
      unfold upd; rw [i2]
    refine ⟨τ', ?_, a1, a2, a3, fun j hj => (a4 j hj).trans (if_neg hj), ?_, ?_⟩
    · show zX8_write_29_b _ _ _ _ _ = _
      unfold zX8_write_29_b
      rw [h, if_neg (fun c => by have := (p_leN n k (by omega) (by omega)).1 c; omega), if_pos i1, if_pos i1, p_sucN, x]
    · intro i hi; rw [a5 i (by omega), v i, if_neg (by omega)]
    · intro i h1 h2
      by_cases c : i = k
      · subst c; rw [a5 i (by omega), v i, if_pos rfl]
      · rw [a6 i (by omega) h2]; rfl
theorem pMQ_si {σ τ : fv_S} (h : pMQ σ τ) (j : Nat) (v : Int32) (hj : j < 4352 ∨ 5248 ≤ j) (k : Nat) (w : Int32) (hk : k < 72) : pMQ (fv_si σ j v) (fv_si τ k w) :=
  pMQ_c h (fun _ _ _ => rfl) (fun i h1 h2 => if_neg (by omega)) rfl (fun _ _ => rfl) (fun i hi => if_neg (by omega)) rfl
theorem d_write {σ τ : fv_S} (h : pI σ τ) (a : Int32) : ∃ w σ' τ', zX0_write 60 a σ = fv_ri w σ' ∧ zX8_write 60 a τ = fv_ri w τ' ∧ pI σ' τ' ∧ fv_n σ' = fv_n σ ∧ fv_n τ' = fv_n τ := by
  unfold zX0_write zX8_write
  rw [x_isIn a (lo := 0) (hi := 65535) rfl rfl, fv_bi_ri]
  by_cases c0 : 0 ≤ a.toInt
  · rw [if_neg (show ¬ a < 0 by rw [p_lt]; show ¬ a.toInt < 0; omega)]
    by_cases c1 : a.toInt ≤ 65535
    · have wa := pw_rng c0 c1
      rw [if_pos (show p_R 0 65535 a from ⟨c0, c1⟩), if_neg (by decide), if_pos (show a ≤ 65535 by rw [p_le]; exact c1)]
      obtain ⟨len, σ', τ1, τ', t, x, m, sx, wx, sf, sm, wm, tl⟩ := c_wrx (σ := σ) (τ := τ) 40 (pMQ_si h.1 3841 0 (by omega) 66 0 (by omega)) (pFm_c h.2.1 rfl (fun _ _ _ => rfl)) (h.2.2.2.2.2.2 31 (by unfold p_bn; omega)) wa
      obtain ⟨τ'', y, b1, b2, b3, b4, b5, b6⟩ := m_wr29 60 t.length len (by omega) t.length 0 60 (fv_si τ' 68 (fv_gi τ' 66)) (by omega) (by omega) (by omega) wm.2.1
      have mi : ∀ k, k ≠ 66 → k ≠ 68 → (k < 59 ∨ 64 < k) → fv_gi τ'' k = fv_gi τ k := by
        intro k h1 h2 h3
        have e1 : fv_gi τ'' k = fv_gi (fv_si τ' 68 (fv_gi τ' 66)) k := by show τ''.1 k = _; rw [b1]
        rw [e1, show fv_gi (fv_si τ' 68 (fv_gi τ' 66)) k = fv_gi τ' k from if_neg h2, sm.1 k h1, show fv_gi τ1 k = fv_gi (fv_si τ 66 0) k from sf.1 k h3]
        exact if_neg h1
      have mw : ∀ k, k ≠ 20 → k ≠ 21 → fv_gw τ'' k = fv_gw τ k := by
        intro k h1 h2
        rw [b4 k h2, show fv_gw (fv_si τ' 68 (fv_gi τ' 66)) k = fv_gw τ' k from rfl, sm.2.1 k h1]
        show τ1.2.2.1 k = _; rw [sf.2]; rfl
      have e2 : τ'.2.1 = τ.2.1 := by rw [sm.2.2.1, sf.2]; rfl
      have xi : ∀ k, k ≠ 3841 → fv_gi σ' k = fv_gi σ k := fun k hk => (sx.1 k hk).trans (if_neg hk)
      have xw : ∀ k, k ≠ 31 → fv_gw σ' k = fv_gw σ k := fun k hk => sx.2.1 k hk
      refine ⟨len, σ', τ'', ?_, ?_, ?_, ?_, ?_⟩
      · rw [show zX6_write_30 60 a σ = fv_ri len σ' from x, fv_bi_ri]
      · rw [show zX8_writeAt 60 a τ = fv_ri len τ' from m, fv_bi_ri]; exact y
      · refine pI_gen h (fun k hk => xi k (by omega)) (fun k hk => xw k (by omega)) (by show σ'.2.1 4366 = _; rw [sx.2.2.1]; rfl) (fun k hk => mi k (by omega) (by omega) (by omega)) (fun k hk => mw k (by omega) (by omega)) ?_ ?_ ?_ ?_
        · show τ''.2.1 86 = τ.2.1 86; rw [b2]; show τ'.2.1 86 = _; rw [e2]
        · unfold pSrc; rw [xi 1665 (by omega), xw 14 (by omega), mi 1 (by omega) (by omega) (by omega), mw 1 (by omega) (by omega)]; exact h.2.2.1
        · refine ⟨t.length, by omega, wx.2.1, ?_, ?_⟩
          · show τ''.1 68 = _; rw [b1]; exact wm.2.1
          · intro i hi
            rw [wx.2.2 i hi, b6 i (by omega) hi]
            exact (wm.2.2 i hi).symm
        · intro k hk i
          by_cases c : k = 31
          · subst c; exact sx.2.2.2.2 i
          · rw [xw k c]; exact h.2.2.2.2.2.2 k hk i
      · exact sx.2.2.2.1
      · rw [b3]; show fv_n τ' = _; rw [sm.2.2.2]; show τ1.2.2.2 = _; rw [sf.2]; rfl
    · rw [if_neg (show ¬ p_R 0 65535 a from fun e => c1 e.2), if_pos rfl, if_neg (show ¬ a ≤ 65535 by rw [p_le]; exact c1)]
      exact ⟨-2, _, _, rfl, rfl, h, rfl, rfl⟩
  · rw [if_neg (show ¬ p_R 0 65535 a from fun e => c0 e.1), if_pos rfl, if_pos (show a < 0 by rw [p_lt]; show a.toInt < 0; omega)]
    exact ⟨-2, _, _, rfl, rfl, h, rfl, rfl⟩
