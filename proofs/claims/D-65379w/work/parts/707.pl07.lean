set_option maxRecDepth 100000
set_option maxHeartbeats 4000000
/-! The plain law: instructions without 203 and 237. -/
theorem p_half {y : Int32} (hy : p_y8 y) : p_q4 (y >>> (1 : Int32)) := by
  rcases hy with rfl | rfl | rfl | rfl | rfl | rfl | rfl | rfl <;> unfold p_q4 <;> decide
theorem x_low (N : Nat) (y z hh pl at_ bh : Int32) (σ : fv_S) : zX7_low N y z hh pl at_ bh σ = zX7_low_22 N y z hh pl at_ bh (if y >>> (1 : Int32) = 2 then hh else y >>> (1 : Int32)) (y &&& 1) σ := by
  unfold zX7_low zX7_named
  have a : (if ¬ y >>> (1 : Int32) = 2 then fv_ri (y >>> (1 : Int32)) σ else fv_ri hh σ) = fv_ri (if y >>> (1 : Int32) = 2 then hh else y >>> (1 : Int32)) σ := by
    by_cases e : y >>> (1 : Int32) = 2
    · rw [if_neg (not_not_intro e), if_pos e]
    · rw [if_pos e, if_neg e]
  rw [a, fv_bi_ri]
  rcases p_bit1 y with e | e <;> rw [e]
  · rw [if_pos (by decide)]
  · rw [if_neg (by decide)]
theorem m_first (τ : fv_S) {op y : Int32} (ho : fv_gi τ 61 = op) (hy : (op >>> (3 : Int32)) &&& 7 = y) : zX8_doFirst τ = zX8_doFirst_26 y (y >>> (1 : Int32)) (y &&& 1) τ := by
  unfold zX8_doFirst
  rw [ho, hy]
  rcases p_bit1 y with e | e <;> rw [e]
  · rw [if_pos (by decide)]
  · rw [if_neg (by decide)]
theorem x_setp (p v : Int32) (σ : fv_S) : zX7_setPair p v σ = zX7_setPair p (v &&& 65535) σ := by
  unfold zX7_setPair; rw [p_idem16]
def p_nb0 (y z : Int32) : Int32 := if z = 0 then (if y ≤ 1 then 0 else 1) else if z = 1 then (if y &&& 1 = 0 then 2 else 0) else if z = 2 then (if y ≤ 3 then 0 else 2) else if z = 6 then 1 else 0
theorem p_add0 {b : Int32} (h : pw b) : (b + 0) &&& 65535 = b := by rw [Int32.add_zero]; exact h
theorem c_first {σ0 τ0 σ τ : fv_S} {p q : Int32} (h : pRel σ0 τ0 p q σ τ) (n : Nat) {y z hh pl at_ bh : Int32} (l : pLk τ0 hh) (hy : p_y8 y) (hz : p_y8 z) (hop : fv_gi τ0 61 &&& 7 = z)
    (hpl : z = 4 ∨ z = 5 ∨ z = 6 → pl &&& 65535 = p_pl τ &&& 65535) (hb : p = bh) (wb : pw bh) (hat : z = 0 → (at_ + 1) &&& 65535 = bh) (ho : bh = fv_gi τ0 64 &&& 65535) (hq : q = (bh + p_nb0 y z) &&& 65535) :
    ∃ r σ' τ', pw r ∧ zX7_low (n + 10) y z hh pl at_ bh σ = fv_rv σ' ∧ zX8_doFirst_26 y (y >>> (1 : Int32)) (y &&& 1) τ = fv_rv τ' ∧ pRel σ0 τ0 r r σ' τ' := by
  have ix := pLk_ix l
  have h61 : fv_gi τ 61 &&& 7 = z := by rw [g_k h 61 (by omega)]; exact hop
  have h64 := g_k h 64 (by omega)
  have hbo : bh &&& 65535 = fv_gi τ 64 &&& 65535 := by rw [h64, show bh &&& 65535 = bh from wb]; exact ho
  have hbo0 : bh &&& 65535 = fv_gi τ0 64 &&& 65535 := by rw [← h64]; exact hbo
  have q4 := p_half hy
  rw [x_low]
  rcases hz with rfl | rfl | rfl | rfl | rfl | rfl | rfl | rfl
  · have hq' : q = if y ≤ 1 then bh else (bh + 1) &&& 65535 := by
      rw [hq]; unfold p_nb0; rw [if_pos rfl]
      by_cases e : y ≤ 1
      · rw [if_pos e, if_pos e, p_add0 wb]
      · rw [if_neg e, if_neg e]
    obtain ⟨r, σ', τ', hr, x, m, rel⟩ := c_near h n hy hb wb (hat rfl) ho hq'
    refine ⟨r, σ', τ', hr, ?_, ?_, rel⟩
    · unfold zX7_low_22; rw [if_pos rfl, x, fv_bv_rv]
    · unfold zX8_doFirst_26; rw [h61, if_pos rfl, m, fv_bv_rv]
  · rcases p_bit1 y with e | e
    · obtain ⟨w, hw, xw, mw⟩ := c_wide h hbo
      obtain ⟨σ', τ', x, m, rel⟩ := c_setp h l q4 w
      have hq' : q = (bh + 2) &&& 65535 := by
        rw [hq]; unfold p_nb0; rw [if_neg (by decide), if_pos rfl, if_pos e]
      refine ⟨_, _, τ', pw_a (bh + 2), ?_, ?_, hq' ▸ e_px rel ((bh + 2) &&& 65535)⟩
      · unfold zX7_low_22 zX7_low_118 zX7_low_136
        rw [e, if_neg (by decide), if_pos rfl, if_pos rfl, xw, fv_bi_ri, x, fv_bv_rv, if_pos rfl]
      · unfold zX8_doFirst_26
        rw [e, h61, if_neg (by decide), if_pos rfl, if_pos rfl, mw, fv_bi_ri, m, fv_bv_rv]
    · obtain ⟨v, hv, x1, m1⟩ := c_pair h l q4
      obtain ⟨w, a, σ1, σ', τ', xa, xs, xp, m, rel⟩ := c_add16 h l hv
      have hq' : q = bh := by
        rw [hq]; unfold p_nb0; rw [if_neg (by decide), if_pos rfl, e, if_neg (by decide), p_add0 wb]
      refine ⟨bh, _, τ', wb, ?_, ?_, hq' ▸ e_px rel bh⟩
      · unfold zX7_low_22 zX7_low_118 zX7_low_136
        rw [e, if_neg (by decide), if_pos rfl, if_neg (by decide), xa, fv_bi_ri, x1, fv_bi_ri, xs, fv_bi_ri, xp, fv_bv_rv, if_neg (by decide)]
      · unfold zX8_doFirst_26
        rw [e, h61, if_neg (by decide), if_pos rfl, if_neg (by decide), m1, fv_bi_ri, m, fv_bv_rv]
  · obtain ⟨σ', τ', x, m, rel⟩ := c_load h l hy hbo0
    have hq' : q = if y ≤ 3 then p else (bh + 2) &&& 65535 := by
      rw [hq]; unfold p_nb0; rw [if_neg (by decide), if_neg (by decide), if_pos rfl]
      by_cases e : y ≤ 3
      · rw [if_pos e, if_pos e, p_add0 wb, hb]
      · rw [if_neg e, if_neg e]
    refine ⟨q, σ', τ', ?_, ?_, ?_, ?_⟩
    · rw [hq]; exact pw_a _
    · unfold zX7_low_22; rw [if_neg (by decide), if_neg (by decide), if_pos rfl, x, fv_bv_rv]
    · unfold zX8_doFirst_26; rw [h61, if_neg (by decide), if_neg (by decide), if_pos rfl, m, fv_bv_rv]
    · rw [← hq'] at rel; exact rel
  · obtain ⟨v, hv, x1, m1⟩ := c_pair h l q4
    have hq' : q = bh := by
      rw [hq]; unfold p_nb0; rw [if_neg (by decide), if_neg (by decide), if_neg (by decide), if_neg (by decide), p_add0 wb]
    rcases p_bit1 y with e | e
    · obtain ⟨σ', τ', x, m, rel⟩ := c_setp h l q4 ((v + 1) &&& 65535)
      refine ⟨bh, σ', τ', wb, ?_, ?_, ?_⟩
      · unfold zX7_low_22 zX7_low_172
        rw [e, if_neg (by decide), if_neg (by decide), if_neg (by decide), if_pos rfl, x1, fv_bi_ri, if_pos rfl, x_setp, x, fv_bv_rv]
      · unfold zX8_doFirst_26 zX8_doFirst_140
        rw [e, h61, if_neg (by decide), if_neg (by decide), if_neg (by decide), if_pos rfl, m1, fv_bi_ri, if_pos rfl, m, fv_bv_rv]
      · rw [hb, hq'] at rel; exact rel
    · obtain ⟨σ', τ', x, m, rel⟩ := c_setp h l q4 ((v + ((-1) : Int32)) &&& 65535)
      refine ⟨bh, σ', τ', wb, ?_, ?_, ?_⟩
      · unfold zX7_low_22 zX7_low_172
        rw [e, if_neg (by decide), if_neg (by decide), if_neg (by decide), if_pos rfl, x1, fv_bi_ri, if_neg (by decide), x_setp, x, fv_bv_rv]
      · unfold zX8_doFirst_26 zX8_doFirst_140
        rw [e, h61, if_neg (by decide), if_neg (by decide), if_neg (by decide), if_pos rfl, m1, fv_bi_ri, if_neg (by decide), m, fv_bv_rv]
      · rw [hb, hq'] at rel; exact rel
  · have hpl := hpl (Or.inl rfl)
    obtain ⟨v, hv, x1, m1⟩ := c_oct h ix hy hpl
    obtain ⟨w, f, g, hw, hf, hg, x2, m2⟩ := c_step h hv 1
    obtain ⟨σ', τ', x3, m3, rel⟩ := c_seto (e_f (e_f h hf) hg) ix hy (show pl &&& 65535 = p_pl (fv_sa (fv_sa τ 23 6 f) 23 6 g) &&& 65535 from hpl) w
    have hq' : q = bh := by
      rw [hq]; unfold p_nb0; rw [if_neg (by decide), if_neg (by decide), if_neg (by decide), if_neg (by decide), p_add0 wb]
    refine ⟨bh, σ', τ', wb, ?_, ?_, ?_⟩
    · unfold zX7_low_22 zX7_low_179 zX7_low_201
      rw [if_neg (by decide), if_neg (by decide), if_neg (by decide), if_neg (by decide), if_pos rfl, x1, fv_bi_ri, if_neg (by decide), x2, fv_bi_ri, x3, fv_bv_rv]
    · unfold zX8_doFirst_26
      rw [if_neg (by decide)] at m2
      rw [h61, if_neg (by decide), if_neg (by decide), if_neg (by decide), if_neg (by decide), if_pos rfl, m1, fv_bi_ri, m2, fv_bi_ri, m3, fv_bv_rv]
    · rw [hb, hq'] at rel; exact rel
  · have hpl := hpl (Or.inr (Or.inl rfl))
    obtain ⟨v, hv, x1, m1⟩ := c_oct h ix hy hpl
    obtain ⟨w, f, g, hw, hf, hg, x2, m2⟩ := c_step h hv 0
    obtain ⟨σ', τ', x3, m3, rel⟩ := c_seto (e_f (e_f h hf) hg) ix hy (show pl &&& 65535 = p_pl (fv_sa (fv_sa τ 23 6 f) 23 6 g) &&& 65535 from hpl) w
    have hq' : q = bh := by
      rw [hq]; unfold p_nb0; rw [if_neg (by decide), if_neg (by decide), if_neg (by decide), if_neg (by decide), p_add0 wb]
    refine ⟨bh, σ', τ', wb, ?_, ?_, ?_⟩
    · unfold zX7_low_22 zX7_low_179 zX7_low_201
      rw [if_neg (by decide), if_neg (by decide), if_neg (by decide), if_neg (by decide), if_neg (by decide), if_pos rfl, x1, fv_bi_ri, if_pos (by decide), x2, fv_bi_ri, x3, fv_bv_rv]
    · unfold zX8_doFirst_26
      rw [if_pos rfl] at m2
      rw [h61, if_neg (by decide), if_neg (by decide), if_neg (by decide), if_neg (by decide), if_neg (by decide), if_pos rfl, m1, fv_bi_ri, m2, fv_bi_ri, m3, fv_bv_rv]
    · rw [hb, hq'] at rel; exact rel
  · have hpl := hpl (Or.inr (Or.inr rfl))
    obtain ⟨v, hv, x1, m1⟩ := c_get h hbo
    obtain ⟨σ', τ', x3, m3, rel⟩ := c_seto h ix hy hpl v
    have hq' : q = (bh + 1) &&& 65535 := by
      rw [hq]; unfold p_nb0; rw [if_neg (by decide), if_neg (by decide), if_neg (by decide), if_pos rfl]
    refine ⟨_, _, τ', pw_a (bh + 1), ?_, ?_, hq' ▸ e_px rel ((bh + 1) &&& 65535)⟩
    · unfold zX7_low_22
      rw [if_neg (by decide), if_neg (by decide), if_neg (by decide), if_neg (by decide), if_neg (by decide), if_neg (by decide), if_pos rfl, x1, fv_bi_ri, x3, fv_bv_rv]
    · unfold zX8_doFirst_26
      rw [h61, if_neg (by decide), if_neg (by decide), if_neg (by decide), if_neg (by decide), if_neg (by decide), if_neg (by decide), if_pos rfl, m1, fv_bi_ri, m3, fv_bv_rv]
  · obtain ⟨σ', τ', x3, m3, rel⟩ := c_alone h hy
    have hq' : q = bh := by
      rw [hq]; unfold p_nb0; rw [if_neg (by decide), if_neg (by decide), if_neg (by decide), if_neg (by decide), p_add0 wb]
    refine ⟨bh, σ', τ', wb, ?_, ?_, ?_⟩
    · unfold zX7_low_22
      rw [if_neg (by decide), if_neg (by decide), if_neg (by decide), if_neg (by decide), if_neg (by decide), if_neg (by decide), if_neg (by decide), x3, fv_bv_rv]
    · unfold zX8_doFirst_26
      rw [h61, if_neg (by decide), if_neg (by decide), if_neg (by decide), if_neg (by decide), if_neg (by decide), if_neg (by decide), if_neg (by decide), m3, fv_bv_rv]
    · rw [hb, hq'] at rel; exact rel
