set_option maxRecDepth 100000
set_option maxHeartbeats 4000000
/-! The plain law: what stands behind 203 and 237. -/
theorem c_bits {σ0 τ0 σ τ : fv_S} {p q : Int32} (h : pRel σ0 τ0 p q σ τ) (ix : pIx τ0) {b pl : Int32} (hop : fv_gi τ0 61 = b) (hpl : pl &&& 65535 = p_pl τ &&& 65535) (h6 : b >>> (6 : Int32) = 0 → (b >>> (3 : Int32)) &&& 7 ≠ 6) :
    ∃ σ' τ', zX7_bits b pl σ = fv_rv σ' ∧ zX8_do203 τ = fv_rv τ' ∧ pRel σ0 τ0 p q σ' τ' := by
  have h61 : fv_gi τ 61 = b := by rw [g_k h 61 (by omega)]; exact hop
  have hz := p_and7 b
  have hy := p_and7 (b >>> (3 : Int32))
  have hF := g_f h
  obtain ⟨v, hv, x1, m1⟩ := c_oct h ix hz hpl
  by_cases e0 : b >>> (6 : Int32) = 0
  · obtain ⟨w, f, g, hw, hf, x2, m2⟩ := c_rot h hy (h6 e0) hv
    obtain ⟨σ', τ', x3, m3, rel⟩ := c_seto (e_ff h g hf) ix hz (show pl &&& 65535 = p_pl (fv_sa τ 23 6 f) &&& 65535 from hpl) w
    refine ⟨σ', τ', ?_, ?_, rel⟩
    · unfold zX7_bits; rw [x1, fv_bi_ri, if_neg (not_not_intro e0), x2, fv_bi_ri, x3, fv_bv_rv]
    · unfold zX8_do203; rw [h61, m1, fv_bi_ri, h61, if_pos e0, m2, fv_bi_ri, m3, fv_bv_rv]
  · by_cases e1 : b >>> (6 : Int32) = 1
    · have B : ∀ s y, p_bit s → ∃ σ' τ', zX7_bits_71 y v s σ = fv_rv σ' ∧ zX8_do203_84 y v s τ = fv_rv τ' ∧ pRel σ0 τ0 p q σ' τ' := by
        intro s y hs
        have key : ∀ a c : Int32, pb a → pb c → ∃ σ' τ', zX7_bits_109 v 8 a c σ = fv_rv σ' ∧ zX8_do203_139 6 ((((fv_ga τ 23 6 &&& 1) ||| 16) ||| (v &&& 40)) ||| a) c τ = fv_rv τ' ∧ pRel σ0 τ0 p q σ' τ' := by
          intro a c ha hc
          refine ⟨_, _, ?_, ?_, e_f h (v := ((((fv_ga τ 23 6 &&& 1) ||| 16) ||| (v &&& 40)) ||| a) ||| c) (pb_or (pb_or (pb_or (pb_or (pb_and _ 1 rfl) (show pb 16 from rfl)) (pb_and _ 40 rfl)) ha) hc)⟩
          · unfold zX7_bits_109; rw [if_pos (by decide), hF.1]
            congr 2
            ac_rfl
          · unfold zX8_do203_139; rw [if_pos (by decide)]
        rcases hs with rfl | rfl
        · obtain ⟨σ', τ', k1, k2, k3⟩ := key 68 0 rfl rfl
          refine ⟨σ', τ', ?_, ?_, k3⟩
          · unfold zX7_bits_71 zX7_bits_90 zX7_bits_108; rw [if_pos rfl, if_pos rfl, k1]
          · unfold zX8_do203_84 zX8_do203_120 zX8_do203_138; rw [if_pos rfl, if_pos rfl, k2]
        · by_cases e7 : y = 7
          · obtain ⟨σ', τ', k1, k2, k3⟩ := key 0 128 rfl rfl
            refine ⟨σ', τ', ?_, ?_, k3⟩
            · unfold zX7_bits_71 zX7_bits_90; rw [if_neg (by decide), if_neg (by decide), if_neg (not_not_intro e7), k1]
            · unfold zX8_do203_84 zX8_do203_120; rw [if_neg (by decide), if_neg (by decide), if_neg (not_not_intro e7), k2]
          · obtain ⟨σ', τ', k1, k2, k3⟩ := key 0 0 rfl rfl
            refine ⟨σ', τ', ?_, ?_, k3⟩
            · unfold zX7_bits_71 zX7_bits_90 zX7_bits_108; rw [if_neg (by decide), if_neg (by decide), if_pos e7, k1]
            · unfold zX8_do203_84 zX8_do203_120 zX8_do203_138; rw [if_neg (by decide), if_neg (by decide), if_pos e7, k2]
      by_cases e2 : (v >>> (((b >>> (3 : Int32)) &&& 7) &&& 31)) &&& 1 = 1
      · obtain ⟨σ', τ', x2, m2, rel⟩ := B 1 ((b >>> (3 : Int32)) &&& 7) (Or.inr rfl)
        refine ⟨σ', τ', ?_, ?_, rel⟩
        · unfold zX7_bits; rw [x1, fv_bi_ri, if_pos e0, if_neg (not_not_intro e1), if_neg (not_not_intro e2), x2]
        · unfold zX8_do203; rw [h61, m1, fv_bi_ri, h61, if_neg e0, if_pos e1, if_neg (not_not_intro e2), m2]
      · obtain ⟨σ', τ', x2, m2, rel⟩ := B 0 ((b >>> (3 : Int32)) &&& 7) (Or.inl rfl)
        refine ⟨σ', τ', ?_, ?_, rel⟩
        · unfold zX7_bits; rw [x1, fv_bi_ri, if_pos e0, if_neg (not_not_intro e1), if_pos e2, x2]
        · unfold zX8_do203; rw [h61, m1, fv_bi_ri, h61, if_neg e0, if_pos e1, if_pos e2, m2]
    · by_cases e2 : b >>> (6 : Int32) = 2
      · obtain ⟨σ', τ', x3, m3, rel⟩ := c_seto h ix hz hpl (v &&& (((1 : Int32) <<< (((b >>> (3 : Int32)) &&& 7) &&& 31)) ^^^ ((-1) : Int32)))
        refine ⟨σ', τ', ?_, ?_, rel⟩
        · unfold zX7_bits zX7_bits_161; rw [x1, fv_bi_ri, if_pos e0, if_pos e1, if_neg (not_not_intro e2), x3, fv_bv_rv]
        · unfold zX8_do203; rw [h61, m1, fv_bi_ri, h61, if_neg e0, if_neg e1, if_pos e2, m3, fv_bv_rv]
      · obtain ⟨σ', τ', x3, m3, rel⟩ := c_seto h ix hz hpl (v ||| ((1 : Int32) <<< (((b >>> (3 : Int32)) &&& 7) &&& 31)))
        refine ⟨σ', τ', ?_, ?_, rel⟩
        · unfold zX7_bits zX7_bits_161; rw [x1, fv_bi_ri, if_pos e0, if_pos e1, if_pos e2, x3, fv_bv_rv]
        · unfold zX8_do203; rw [h61, m1, fv_bi_ri, h61, if_neg e0, if_neg e1, if_neg e2, m3, fv_bv_rv]
/-- LD I,A .. RLD: y below six -/
theorem c_half {σ0 τ0 σ τ : fv_S} {p q : Int32} (h : pRel σ0 τ0 p q σ τ) {y : Int32} (hy : y = 0 ∨ y = 1 ∨ y = 2 ∨ y = 3 ∨ y = 4 ∨ y = 5) : ∃ σ' τ', zX7_special y σ = fv_rv σ' ∧ zX8_doHalves y τ = fv_rv τ' ∧ pRel σ0 τ0 p q σ' τ' := by
  have hA := g_r h 7 (by decide) (by decide)
  have hF := g_f h
  obtain ⟨v, hv, x1, m1⟩ := c_get h (a := p_hl τ) (a' := p_hl τ) rfl
  have gi := g_i h
  have X : ∀ w, pb w → zX7_special_94 7 w σ = fv_rv (fv_sa (fv_sa σ 36 7 w) 36 8 ((p_sh w ||| (if fv_gi τ 78 = 1 then 4 else 0)) ||| (fv_ga τ 23 6 &&& 1))) := by
    intro w hw
    unfold zX7_special_94 zX7_special_124
    rw [if_pos (by decide), show fv_ga (fv_sa σ 36 7 w) 36 7 = w from rfl, x_shown hw, fv_bi_ri, show fv_gi (fv_sa σ 36 7 w) 4362 = fv_gi τ 78 from gi.2.2.2.2.1.2, show fv_ga (fv_sa σ 36 7 w) 36 8 = fv_ga τ 23 6 from hF.1]
    by_cases e : fv_gi τ 78 = 1
    · rw [if_neg (not_not_intro e), if_pos e, if_pos (by decide)]
    · rw [if_pos e, if_neg e, if_pos (by decide)]
  have M : ∀ w, zX8_doHalves_82 7 w τ = fv_rv (fv_sa (fv_sa τ 23 7 w) 23 6 ((p_sh w ||| (if fv_gi τ 78 = 1 then 4 else 0)) ||| (fv_ga τ 23 6 &&& 1))) := by
    intro w
    unfold zX8_doHalves_82 zX8_doHalves_123
    rw [if_pos (by decide), show fv_ga (fv_sa τ 23 7 w) 23 7 = w from rfl, m_signs, fv_bi_ri, show fv_gi (fv_sa τ 23 7 w) 78 = fv_gi τ 78 from rfl, show fv_ga (fv_sa τ 23 7 w) 23 6 = fv_ga τ 23 6 from rfl]
    by_cases e : fv_gi τ 78 = 1
    · rw [if_neg (not_not_intro e), if_pos e, if_pos (by decide)]
      congr 2; ac_rfl
    · rw [if_pos e, if_neg e, if_pos (by decide)]
      congr 2; ac_rfl
  have R : ∀ w, pb w → pRel σ0 τ0 p q (fv_sa (fv_sa σ 36 7 w) 36 8 ((p_sh w ||| (if fv_gi τ 78 = 1 then 4 else 0)) ||| (fv_ga τ 23 6 &&& 1))) (fv_sa (fv_sa τ 23 7 w) 23 6 ((p_sh w ||| (if fv_gi τ 78 = 1 then 4 else 0)) ||| (fv_ga τ 23 6 &&& 1))) := by
    intro w hw
    refine e_f (e_r h 7 (by decide) (by decide) hw) (pb_or (pb_or (pb_sh _) ?_) (pb_and _ 1 rfl))
    split <;> rfl
  have D : ∀ (a c w : Int32), pb w → ∃ σ' τ', zX7_digit w (fv_sa σ 35 a (p_se c)) = fv_rv σ' ∧ zX8_doHalves_232 (fv_sa (fv_sa τ 13 a (c &&& 255)) 23 7 ((fv_ga τ 23 7 &&& 240) ||| w)) = fv_rv τ' ∧ pRel σ0 τ0 p q σ' τ' := by
    intro a c w hw
    have b1 : pb ((fv_ga τ 23 7 &&& 240) ||| w) := pb_or (pb_and _ 240 rfl) hw
    refine ⟨_, _, ?_, ?_, e_f (e_r (e_m h a c) 7 (by decide) (by decide) b1) (v := (p_sh ((fv_ga τ 23 7 &&& 240) ||| w) ||| p_pa ((fv_ga τ 23 7 &&& 240) ||| w)) ||| (fv_ga τ 23 6 &&& 1)) (pb_or (pb_or (pb_sh _) (pb_pa _)) (pb_and _ 1 rfl))⟩
    · unfold zX7_digit
      rw [show fv_ga (fv_sa σ 35 a (p_se c)) 36 7 = fv_ga τ 23 7 from hA.1, x_shown b1, fv_bi_ri, x_parity, fv_bi_ri, show ∀ u, fv_ga (fv_sa (fv_sa σ 35 a (p_se c)) 36 7 u) 36 7 = u from fun _ => rfl, show ∀ u, fv_ga (fv_sa (fv_sa σ 35 a (p_se c)) 36 7 u) 36 8 = fv_ga τ 23 6 from fun _ => hF.1]
    · unfold zX8_doHalves_232
      rw [show ∀ u, fv_ga (fv_sa (fv_sa τ 13 a (c &&& 255)) 23 7 u) 23 7 = u from fun _ => rfl, m_signs, fv_bi_ri, m_parity, fv_bi_ri, show ∀ u, fv_ga (fv_sa (fv_sa τ 13 a (c &&& 255)) 23 7 u) 23 7 = u from fun _ => rfl, show ∀ u, fv_ga (fv_sa (fv_sa τ 13 a (c &&& 255)) 23 7 u) 23 6 = fv_ga τ 23 6 from fun _ => rfl]
      congr 2; ac_rfl
  rcases hy with rfl | rfl | rfl | rfl | rfl | rfl
  · refine ⟨_, _, ?_, rfl, e_i h hA.2⟩
    unfold zX7_special; rw [(x_hl h).1, fv_bi_ri, x1, fv_bi_ri, if_pos rfl, hA.1]
  · refine ⟨_, _, ?_, rfl, e_rf h hA.2⟩
    unfold zX7_special; rw [(x_hl h).1, fv_bi_ri, x1, fv_bi_ri, if_neg (by decide), if_pos rfl, hA.1]
  · refine ⟨_, _, ?_, M (fv_gi τ 72), R _ gi.2.1.1⟩
    unfold zX7_special zX7_special_72; rw [(x_hl h).1, fv_bi_ri, x1, fv_bi_ri, if_neg (by decide), if_neg (by decide), if_pos rfl, if_neg (by decide), show fv_gi σ 4359 = fv_gi τ 72 from gi.2.1.2, X _ gi.2.1.1]
  · refine ⟨_, _, ?_, M (fv_gi τ 73), R _ gi.2.2.1.1⟩
    unfold zX7_special zX7_special_72; rw [(x_hl h).1, fv_bi_ri, x1, fv_bi_ri, if_neg (by decide), if_neg (by decide), if_neg (by decide), if_pos rfl, if_pos (by decide), show fv_gi σ 4360 = fv_gi τ 73 from gi.2.2.1.2, X _ gi.2.2.1.1]
  · obtain ⟨σ', τ', x2, m2, rel⟩ := D (p_hl τ &&& 65535) ((v >>> (4 : Int32)) ||| ((fv_ga τ 23 7 &&& 15) <<< (4 : Int32))) (v &&& 15) (pb_and _ 15 rfl)
    refine ⟨σ', τ', ?_, ?_, rel⟩
    · unfold zX7_special; rw [(x_hl h).1, fv_bi_ri, x1, fv_bi_ri, if_neg (by decide), if_neg (by decide), if_neg (by decide), if_neg (by decide), if_pos rfl, (x_hl h).1, fv_bi_ri, hA.1, x_put, fv_bv_rv, x2, fv_bv_rv]
    · unfold zX8_doHalves; rw [if_neg (by decide), if_neg (by decide), if_neg (by decide), if_neg (by decide), m_hl, fv_bi_ri, m1, fv_bi_ri, if_pos (by decide), m_hl, fv_bi_ri, m_store, fv_bv_rv]; exact m2
  · obtain ⟨σ', τ', x2, m2, rel⟩ := D (p_hl τ &&& 65535) ((v <<< (4 : Int32)) ||| (fv_ga τ 23 7 &&& 15)) (v >>> (4 : Int32)) (pb_shr hv).2.1
    refine ⟨σ', τ', ?_, ?_, rel⟩
    · unfold zX7_special; rw [(x_hl h).1, fv_bi_ri, x1, fv_bi_ri, if_neg (by decide), if_neg (by decide), if_neg (by decide), if_neg (by decide), if_neg (by decide), (x_hl h).1, fv_bi_ri, hA.1, x_put, fv_bv_rv, x2, fv_bv_rv]
    · unfold zX8_doHalves; rw [if_neg (by decide), if_neg (by decide), if_neg (by decide), if_neg (by decide), m_hl, fv_bi_ri, m1, fv_bi_ri, if_neg (by decide), m_hl, fv_bi_ri, m_store, fv_bv_rv]; exact m2
