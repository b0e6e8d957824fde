set_option maxRecDepth 100000
set_option maxHeartbeats 4000000
/-! The plain law: one step; runs. -/
/-- the machines agree -/
def pMQ (σ τ : fv_S) : Prop := ∃ σg τg r, pw r ∧ pRel σg τg r r σ τ
theorem c_186 (τ : fv_S) (a i : Int32) : zX8_decode_186 a i (pS0 τ a (p_m τ a)) = (if ¬ p_m τ (a + 1) = (203 : Int32) then
      if p_hp (p_m τ (a + 1)) = 0 then (if p_hh (p_m τ (a + 1)) = 0 ∨ p_hh (p_m τ (a + 1)) = 1 then fv_ri (p_hh (p_m τ (a + 1))) (fv_si (fv_si (fv_si (fv_si (pS0 τ a (p_m τ a)) 60 i) 61 (p_m τ (a + 1))) 64 (a + 2)) 63 (1 + p_ln (p_m τ (a + 1)))) else none)
      else fv_bi (zX8_signed (p_m τ (a + 2)) (fv_si (fv_si (fv_si (fv_si (pS0 τ a (p_m τ a)) 60 i) 61 (p_m τ (a + 1))) 64 (a + 2)) 63 (1 + p_ln (p_m τ (a + 1))))) (fun r16 σ15 =>
                fv_ri 1 (fv_si (fv_si (fv_si σ15 62 r16) 64 (a + (3 : Int32))) 63 ((fv_gi σ15 63) + (1 : Int32)))) fv_no
    else fv_bi (zX8_signed (p_m τ (a + 2)) (fv_si (fv_si (fv_si (pS0 τ a (p_m τ a)) 60 i) 61 (p_m τ (a + 1))) 59 1)) (fun r20 σ19 =>
            if ¬ (p_m σ19 (a + 3) &&& (7 : Int32)) = (6 : Int32) then fv_ri 0 (fv_si (fv_si (fv_si σ19 62 r20) 61 (p_m σ19 (a + 3))) 63 4)
            else if (p_m σ19 (a + 3) >>> (3 : Int32)) = (6 : Int32) then fv_ri 0 (fv_si (fv_si (fv_si σ19 62 r20) 61 (p_m σ19 (a + 3))) 63 4)
              else fv_ri 1 (fv_si (fv_si (fv_si σ19 62 r20) 61 (p_m σ19 (a + 3))) 63 4)) fv_no) := by
  unfold zX8_decode_186
  rw [m_pk, fv_bi_ri, show p_m (fv_si (pS0 τ a (p_m τ a)) 60 i) (a + 1) = p_m τ (a + 1) from rfl]
  by_cases c : p_m τ (a + 1) = 203
  · rw [if_neg (not_not_intro c), if_neg (not_not_intro c), m_pk, fv_bi_ri]
    congr 1
    funext r20 σ19
    rw [m_pk, fv_bi_ri]; rfl
  · rw [if_pos c, if_pos c, m_len, fv_bi_ri, m_hp, fv_bi_ri]
    congr 1
    · rw [m_hh, fv_bi_ri]; rfl
    · rw [m_pk, fv_bi_ri]; rfl
theorem c_instr {σ0 τ0 σ τ : fv_S} {p : Int32} (n : Nat) (h : pRel σ0 τ0 p p σ τ) (wp : pw p) (ft : pFT σ) : ∃ w σ' τ', zX7_instruction (n + 10) σ = fv_ri w σ' ∧
    fv_bi (zX8_decode (fv_gi τ 76) τ) (fun r15 σ14 => if ¬ r15 = 0 then p_rest (n + 10) σ14 else fv_ri 0 σ14) fv_no = fv_ri w τ' ∧ pMQ σ' τ' ∧ pFX σ σ' ∧ pFO τ τ' := by
  obtain ⟨b, hb, eb⟩ := pb_n (x_m h p).2
  obtain ⟨n1, hn1, e1⟩ := pb_n (x_m h (p + 1)).2
  obtain ⟨n2, hn2, e2⟩ := pb_n (x_m h (p + 2)).2
  obtain ⟨n3, hn3, e3⟩ := pb_n (x_m h (p + 3)).2
  have ha := x_at h wp eb hb e1 hn1 e3 hn3
  have hp := g_px h
  have sf0 := pSF_0 τ p (p_m τ p)
  have fin : ∀ {τ1 : fv_S} {r : Int32} {σ' τ' : fv_S}, pSF τ τ1 → pw r → pRel σ τ1 r r σ' τ' → pMQ σ' τ' ∧ pFX σ σ' ∧ pFO τ τ' := fun s hr rel => ⟨⟨_, _, _, hr, rel⟩, g_fx rel, pFO_of s (g_fm rel)⟩
  have bad : ∀ {τ1 : fv_S}, pSF τ τ1 → pMQ σ τ1 ∧ pFX σ σ ∧ pFO τ τ1 := fun s => ⟨⟨_, _, _, wp, e_scr h s⟩, pFX_r _, pFO_of s (pFM_r _)⟩
  rw [g_pm h, m_dec, eb, e1]
  by_cases c1 : b = 203
  · subst c1
    rw [if_pos rfl] at ha
    have ft1 := ft 1 n1 (by omega) hn1
    have sf1 : pSF τ (fv_si (fv_si (fv_si (pS0 τ p (p_m τ p)) 59 1) 61 (Int32.ofNat n1)) 63 2) := pSF_si (pSF_si (pSF_si sf0 59 _ (by omega)) 61 _ (by omega)) 63 _ (by omega)
    rw [eb] at sf1
    have q6 : Int32.ofNat n1 >>> (3 : Int32) = 6 ↔ n1 / 8 = 6 := by
      have : ∀ n, n < 256 → (Int32.ofNat n >>> (3 : Int32) = 6 ↔ n / 8 = 6) := by decide +kernel
      exact this n1 hn1
    rw [if_neg (show ¬ ¬ Int32.ofNat 203 = 203 from not_not_intro rfl)]
    by_cases c6 : n1 / 8 = 6
    · rw [if_neg (by simp [p_ok, c6])] at ft1
      rw [if_pos (q6.2 c6), fv_bi_ri, if_neg (by decide)]
      exact ⟨0, _, _, x_none _ hp ha ft1, rfl, bad sf1⟩
    · rw [if_pos (by simp [p_ok, c6])] at ft1
      obtain ⟨f, hf, f1, f2, f3, _⟩ := ft1
      rw [if_neg (fun e => c6 (q6.1 e)), fv_bi_ri, if_pos (by decide), x_inst _ hp ha hf f1 f2 f3 (by omega), if_neg (by omega)]
      obtain ⟨r, w, σ', τ', hr, x, m, rel⟩ := c_B (n + 10) h sf1 (f := f) hn1 (fun e => c6 (q6.1 e)) rfl rfl rfl rfl
      exact ⟨w, σ', τ', x, m, fin sf1 hr rel⟩
  · have d1 := p_ofni b hb 203 (by omega) c1
    rw [if_neg c1] at ha
    rw [if_pos (show ¬ Int32.ofNat b = 203 from d1)]
    by_cases c2 : b = 237
    · subst c2
      rw [if_pos rfl] at ha
      have ft1 := ft 2 n1 (by omega) hn1
      rw [if_neg (show ¬ ¬ Int32.ofNat 237 = 237 from not_not_intro rfl)]
      have key : ∀ k, (k = if p_x (Int32.ofNat n1) = 1 ∧ p_zz (Int32.ofNat n1) = 3 then (4 : Int32) else 2) → ∃ w σ' τ', zX7_instruction (n + 10) σ = fv_ri w σ' ∧
          fv_bi (zX8_decode_145 k (fv_si (fv_si (fv_si (pS0 τ p (Int32.ofNat 237)) 59 2) 61 (Int32.ofNat n1)) 64 (p + 2))) (fun r15 σ14 => if ¬ r15 = 0 then p_rest (n + 10) σ14 else fv_ri 0 σ14) fv_no = fv_ri w τ' ∧ pMQ σ' τ' ∧ pFX σ σ' ∧ pFO τ τ' := by
        intro k hk
        have sf1 : pSF τ (fv_si (fv_si (fv_si (fv_si (pS0 τ p (p_m τ p)) 59 2) 61 (Int32.ofNat n1)) 64 (p + 2)) 63 k) := pSF_si (pSF_si (pSF_si (pSF_si sf0 59 _ (by omega)) 61 _ (by omega)) 64 _ (by omega)) 63 _ (by omega)
        rw [eb] at sf1
        unfold zX8_decode_145
        rw [m_b7, fv_bi_ri, show fv_gi (fv_si (fv_si (fv_si (pS0 τ p (Int32.ofNat 237)) 59 2) 61 (Int32.ofNat n1)) 64 (p + 2)) 61 = Int32.ofNat n1 from rfl, if_pos (p_f2 n1 hn1).2.2, fv_bi_ri]
        by_cases c7 : p_b7 (Int32.ofNat n1) = 1
        · rw [if_pos (by simp [p_ok, c7])] at ft1
          obtain ⟨f, hf, f1, f2, f3, _⟩ := ft1
          rw [c7, if_pos (by decide), x_inst _ hp ha hf f1 f2 f3 (by omega), if_neg (by omega)]
          obtain ⟨r, w, σ', τ', hr, x, m, rel⟩ := c_C (n + 10) h wp sf1 (f := f) hn1 c7 rfl rfl rfl rfl hk
          exact ⟨w, σ', τ', x, m, fin sf1 hr rel⟩
        · rw [if_neg (by simp [p_ok, c7])] at ft1
          have c0 : p_b7 (Int32.ofNat n1) = 0 := (p_f2 n1 hn1).2.2.resolve_right c7
          rw [c0, if_neg (by decide)]
          exact ⟨0, _, _, x_none _ hp ha ft1, rfl, bad sf1⟩
      by_cases x1 : Int32.ofNat n1 >>> (6 : Int32) = 1
      · rw [if_neg (not_not_intro x1)]
        by_cases z3 : Int32.ofNat n1 &&& 7 = 3
        · rw [if_neg (not_not_intro z3)]; exact key 4 (by rw [if_pos ⟨x1, z3⟩])
        · rw [if_pos z3]; exact key 2 (by rw [if_neg (fun e => z3 e.2)])
      · rw [if_pos x1]; exact key 2 (by rw [if_neg (fun e => x1 e.1)])
    · have d2 := p_ofni b hb 237 (by omega) c2
      rw [if_neg c2] at ha
      rw [if_pos (show ¬ Int32.ofNat b = 237 from d2)]
      have key : ∀ (P1 P2 : Nat) (i : Int32), (P1 = 3 ∧ P2 = 5 ∧ i = 1) ∨ (P1 = 4 ∧ P2 = 6 ∧ i = 2) → zX2_at p σ = fv_ri (fv_gw σ 11 (if n1 = 203 then 256 * P2 + n3 else 256 * P1 + n1)) σ → ∃ w σ' τ', zX7_instruction (n + 10) σ = fv_ri w σ' ∧
          fv_bi (zX8_decode_186 p i (pS0 τ p (p_m τ p))) (fun r15 σ14 => if ¬ r15 = 0 then p_rest (n + 10) σ14 else fv_ri 0 σ14) fv_no = fv_ri w τ' ∧ pMQ σ' τ' ∧ pFX σ σ' ∧ pFO τ τ' := by
        intro P1 P2 i hP ha
        rw [c_186, e1]
        have sg := m_signed (x_m h (p + 2)).2
        by_cases c5 : n1 = 203
        · subst c5
          rw [if_pos rfl] at ha
          rw [if_neg (show ¬ ¬ Int32.ofNat 203 = 203 from not_not_intro rfl), sg, fv_bi_ri]
          have sf1 : pSF τ (fv_si (fv_si (fv_si (fv_si (fv_si (fv_si (pS0 τ p (p_m τ p)) 60 i) 61 (Int32.ofNat 203)) 59 1) 62 (p_se (p_m τ (p + 2)))) 61 (Int32.ofNat n3)) 63 4) :=
            pSF_si (pSF_si (pSF_si (pSF_si (pSF_si (pSF_si sf0 60 _ (by omega)) 61 _ (by omega)) 59 _ (by omega)) 62 _ (by omega)) 61 _ (by omega)) 63 _ (by omega)
          rw [show ∀ t, p_m (fv_si (fv_si (fv_si (pS0 τ p (p_m τ p)) 60 i) 61 t) 59 1) (p + 3) = p_m τ (p + 3) from fun _ => rfl, e3]
          have P2' : P2 < 7 := by omega
          have ft1 := ft P2 n3 P2' hn3
          have okE : p_ok P2 n3 = (n3 % 8 == 6 && n3 / 8 != 6) := by rcases hP with ⟨_, rfl, _⟩ | ⟨_, rfl, _⟩ <;> rfl
          have q6 : (Int32.ofNat n3 >>> (3 : Int32) = 6 ↔ n3 / 8 = 6) ∧ (Int32.ofNat n3 &&& 7 = 6 ↔ n3 % 8 = 6) := by
            have : ∀ n, n < 256 → (Int32.ofNat n >>> (3 : Int32) = 6 ↔ n / 8 = 6) ∧ (Int32.ofNat n &&& (7 : Int32) = 6 ↔ n % 8 = 6) := by decide +kernel
            exact this n3 hn3
          by_cases c7 : n3 % 8 = 6
          · rw [if_neg (not_not_intro (q6.2.2 c7))]
            by_cases c6 : n3 / 8 = 6
            · rw [if_neg (by simp [okE, c6])] at ft1
              rw [if_pos (q6.1.2 c6), fv_bi_ri, if_neg (by decide)]
              exact ⟨0, _, _, x_none _ hp ha ft1, rfl, bad sf1⟩
            · rw [if_pos (by simp [okE, c6, c7])] at ft1
              obtain ⟨f, hf, f1, f2, f3, _⟩ := ft1
              rw [if_neg (fun e => c6 (q6.1.1 e)), fv_bi_ri, if_pos (by decide), x_inst _ hp ha hf f1 f2 f3 P2', if_neg (by omega)]
              obtain ⟨r, w, σ', τ', hr, x, m, rel⟩ := c_E (n + 10) h sf1 (f := f) (P := P2) (i := i) hn3 (fun e => c6 (q6.1.1 e)) (by rcases hP with ⟨_, a, b⟩ | ⟨_, a, b⟩; exact Or.inl ⟨a, b⟩; exact Or.inr ⟨a, b⟩) rfl rfl rfl rfl rfl
              exact ⟨w, σ', τ', x, m, fin sf1 hr rel⟩
          · rw [if_neg (by simp [okE, c7])] at ft1
            rw [if_pos (fun e => c7 (q6.2.1 e)), fv_bi_ri, if_neg (by decide)]
            exact ⟨0, _, _, x_none _ hp ha ft1, rfl, bad sf1⟩
        · have d5 := p_ofni n1 hn1 203 (by omega) c5
          rw [if_neg c5] at ha
          rw [if_pos (show ¬ Int32.ofNat n1 = 203 from d5)]
          have P1' : P1 < 7 := by omega
          have ft1 := ft P1 n1 P1' hn1
          have okE : p_ok P1 n1 = (decide (p_hp (Int32.ofNat n1) = 1) || decide (p_hh (Int32.ofNat n1) = 1)) := by rcases hP with ⟨rfl, _⟩ | ⟨rfl, _⟩ <;> rfl
          have sf1 : pSF τ (fv_si (fv_si (fv_si (fv_si (pS0 τ p (p_m τ p)) 60 i) 61 (Int32.ofNat n1)) 64 (p + 2)) 63 (1 + p_ln (Int32.ofNat n1))) :=
            pSF_si (pSF_si (pSF_si (pSF_si sf0 60 _ (by omega)) 61 _ (by omega)) 64 _ (by omega)) 63 _ (by omega)
          have hPi : (P1 = 3 ∧ i = 1) ∨ (P1 = 4 ∧ i = 2) := by rcases hP with ⟨a, _, b⟩ | ⟨a, _, b⟩; exact Or.inl ⟨a, b⟩; exact Or.inr ⟨a, b⟩
          by_cases c8 : p_hp (Int32.ofNat n1) = 0
          · rw [if_pos c8, if_pos (p_f2 n1 hn1).2.1, fv_bi_ri]
            by_cases c9 : p_hh (Int32.ofNat n1) = 1
            · rw [if_pos (by simp [okE, c9])] at ft1
              obtain ⟨f, hf, f1, f2, f3, f4⟩ := ft1
              rw [c9, if_pos (by decide), x_inst _ hp ha hf f1 f2 f3 P1', if_neg (by omega)]
              obtain ⟨r, w, σ', τ', hr, x, m, rel⟩ := c_D n h sf1 (f := f) (P := P1) (i := i) (g := 0) hn1 hf hPi (Or.inr c9) (Or.inr ⟨rfl, c8⟩) (f4 (by omega)) rfl rfl rfl (fun e => absurd e (by decide)) rfl (by
                show 1 + p_ln (Int32.ofNat n1) = _
                rw [p_f1 n1 hn1, ← Int32.add_assoc]; rfl)
              exact ⟨w, σ', τ', x, m, fin sf1 hr rel⟩
            · have c0 : p_hh (Int32.ofNat n1) = 0 := (p_f2 n1 hn1).2.1.resolve_right c9
              rw [if_neg (by simp [okE, c9, c8])] at ft1
              rw [c0, if_neg (by decide)]
              exact ⟨0, _, _, x_none _ hp ha ft1, rfl, bad sf1⟩
          · have c9 : p_hp (Int32.ofNat n1) = 1 := (p_f2 n1 hn1).1.resolve_left c8
            rw [if_neg c8, sg, fv_bi_ri, fv_bi_ri, if_pos (by decide)]
            rw [if_pos (by simp [okE, c9])] at ft1
            obtain ⟨f, hf, f1, f2, f3, f4⟩ := ft1
            rw [x_inst _ hp ha hf f1 f2 f3 P1', if_neg (by omega)]
            have sf2 := pSF_si (pSF_si (pSF_si sf1 62 (p_se (p_m τ (p + 2))) (by omega)) 64 (p + 3) (by omega)) 63 ((1 + p_ln (Int32.ofNat n1)) + 1) (by omega)
            obtain ⟨r, w, σ', τ', hr, x, m, rel⟩ := c_D n h sf2 (f := f) (P := P1) (i := i) (g := 1) hn1 hf hPi (Or.inl c9) (Or.inl ⟨rfl, c9⟩) (f4 (by omega)) rfl rfl rfl (fun _ => rfl) rfl (by
                show (1 + p_ln (Int32.ofNat n1)) + 1 = _
                rw [p_f1 n1 hn1, ← Int32.add_assoc, Int32.add_assoc, Int32.add_comm (p_nb (Int32.ofNat n1)), ← Int32.add_assoc]; rfl)
            exact ⟨w, σ', τ', x, m, fin sf2 hr rel⟩
      rw [eb] at key
      by_cases c3 : b = 221
      · subst c3
        rw [if_pos rfl] at ha
        rw [if_pos (show Int32.ofNat 221 = 221 from rfl)]
        exact key 3 5 1 (Or.inl ⟨rfl, rfl, rfl⟩) ha
      · have d3 := p_ofni b hb 221 (by omega) c3
        rw [if_neg c3] at ha
        rw [if_neg (show ¬ Int32.ofNat b = 221 from d3)]
        by_cases c4 : b = 253
        · subst c4
          rw [if_pos rfl] at ha
          rw [if_pos (show Int32.ofNat 253 = 253 from rfl)]
          exact key 4 6 2 (Or.inr ⟨rfl, rfl, rfl⟩) ha
        · have d4 := p_ofni b hb 253 (by omega) c4
          rw [if_neg c4] at ha
          rw [if_neg (show ¬ Int32.ofNat b = 253 from d4), fv_bi_ri, if_pos (by decide)]
          have ft1 := ft 0 b (by omega) hb
          rw [if_pos (by simp [p_ok, c1, c2, c3, c4])] at ft1
          obtain ⟨f, hf, f1, f2, f3, _⟩ := ft1
          rw [x_inst _ hp ha hf f1 f2 f3 (by omega), if_pos rfl]
          rw [eb] at sf0
          obtain ⟨r, w, σ', τ', hr, x, m, rel⟩ := c_A n h wp sf0 (f := f) hb ⟨c1, c3, c2, c4⟩ rfl rfl rfl rfl rfl
          exact ⟨w, σ', τ', x, m, fin sf0 hr rel⟩
