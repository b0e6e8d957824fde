set_option maxRecDepth 100000
set_option maxHeartbeats 4000000
/-! The plain law: the last quarter of the plain instructions. -/
theorem c_call {σ0 τ0 σ τ : fv_S} {p q : Int32} (h : pRel σ0 τ0 p q σ τ) {bh : Int32} (ho : bh &&& 65535 = fv_gi τ0 64 &&& 65535) (hq : q = (bh + 2) &&& 65535) : ∃ r σ' τ1 τ', pw r ∧ zX7_call 1 bh σ = fv_rv σ' ∧ zX8_wide (fv_gi τ 64) τ = fv_ri r τ ∧ zX8_pushTwo (fv_gi τ 76) τ = fv_rv τ1 ∧ τ' = fv_si τ1 76 r ∧ pRel σ0 τ0 r r σ' τ' := by
  have h64 := g_k h 64 (by omega)
  have hp := e_px h ((bh + 2) &&& 65535)
  obtain ⟨w, hw, xw, mw⟩ := c_wide hp (a := bh) (a' := fv_gi τ 64) (by rw [h64, ho])
  obtain ⟨σ', τ1, x, m, rel, e1, _, _⟩ := c_push hp ((bh + 2) &&& 65535)
  refine ⟨w, _, τ1, _, hw, ?_, mw, ?_, rfl, e_pm (e_px rel w) w⟩
  · unfold zX7_call
    rw [if_pos (by decide), xw, fv_bi_ri, show fv_gi (fv_si σ 4358 ((bh + 2) &&& 65535)) 4358 = (bh + 2) &&& 65535 from rfl, x, fv_bv_rv]
  · rw [g_pm h, hq, m]
theorem e_he0 {σ0 τ0 σ τ : fv_S} {p q : Int32} (h : pRel σ0 τ0 p q σ τ) (h85 : fv_gi τ 85 = 0) : pRel σ0 τ0 p q (fv_si σ 4370 0) τ := by
  obtain ⟨m, r, o, x, i, u, ⟨s0, s1, s2, s3, s4, s5, s6, s7, s8, s9⟩, l, hp, hq, fx, fm⟩ := h
  exact ⟨m, r, o, x, i, u, ⟨s0, s1, s2, s3, s4, s5, s6, s7, s8, ⟨s9.1, h85.symm⟩⟩, l, hp, hq, pFX_si fx _ _ (by omega), fm⟩
theorem c_third {σ0 τ0 σ τ : fv_S} {p q : Int32} (h : pRel σ0 τ0 p q σ τ) {y hh bh : Int32} (l : pLk τ0 hh) (hy : p_y8 y) (h1 : y ≠ 1) (hb : p = bh) (wb : pw bh) (ho : bh = fv_gi τ0 64 &&& 65535)
    (h85 : fv_gi τ 85 = 0) (hq : q = if y = 0 then (bh + 2) &&& 65535 else if y = 2 then (bh + 1) &&& 65535 else if y = 3 then (bh + 1) &&& 65535 else bh) :
    ∃ r σ' τ', pw r ∧ zX7_others y hh bh σ = fv_rv σ' ∧ zX8_doThird y τ = fv_rv τ' ∧ pRel σ0 τ0 r r σ' τ' := by
  have h64 := g_k h 64 (by omega)
  have hbo : bh &&& 65535 = fv_gi τ 64 &&& 65535 := by rw [h64, show bh &&& 65535 = bh from wb]; exact ho
  have hp := e_px h ((bh + 1) &&& 65535)
  have hA := g_r hp 7 (by decide) (by decide)
  rcases hy with rfl | rfl | rfl | rfl | rfl | rfl | rfl | rfl
  · obtain ⟨w, hw, xw, mw⟩ := c_wide h hbo
    refine ⟨w, _, _, hw, ?_, ?_, e_pm (e_px h w) w⟩
    · unfold zX7_others; rw [if_pos rfl, xw, fv_bi_ri]
    · unfold zX8_doThird; rw [if_pos rfl, mw, fv_bi_ri]
  · exact absurd rfl h1
  · rw [if_neg (by decide), if_pos rfl] at hq
    obtain ⟨v, hv, x1, m1⟩ := c_get hp hbo
    obtain ⟨σ', τ', x2, m2, rel, _⟩ := c_out hp v (fv_ga τ 23 7)
    refine ⟨_, σ', τ', pw_a (bh + 1), ?_, ?_, hq ▸ rel⟩
    · unfold zX7_others; rw [if_neg (by decide), if_neg (by decide), if_pos rfl, x1, fv_bi_ri, hA.1, x2, fv_bv_rv]
    · unfold zX8_doThird; rw [if_neg (by decide), if_neg (by decide), if_pos rfl, m1, fv_bi_ri, m2, fv_bv_rv]
  · rw [if_neg (by decide), if_neg (by decide), if_pos rfl] at hq
    obtain ⟨v, hv, x1, m1⟩ := c_get hp hbo
    have i := x_in hp hv
    refine ⟨_, _, _, pw_a (bh + 1), ?_, ?_, hq ▸ e_r hp 7 (by decide) (by decide) i.2⟩
    · unfold zX7_others; rw [if_neg (by decide), if_neg (by decide), if_neg (by decide), if_pos rfl, x1, fv_bi_ri, i.1, fv_bi_ri]
    · unfold zX8_doThird; rw [if_neg (by decide), if_neg (by decide), if_neg (by decide), if_pos rfl, m1, fv_bi_ri, if_pos (p_in256 hv)]
  · rw [if_neg (by decide), if_neg (by decide), if_neg (by decide)] at hq
    have s := g_sp h
    obtain ⟨w, hw, xw, mw⟩ := c_wide h (a := fv_gi τ 75) (a' := fv_gi τ 75) rfl
    obtain ⟨v, hv, x1, m1⟩ := c_base h l
    obtain ⟨σ1, τ1, τ2, x2, m2, m3, rel, e1⟩ := c_put2 h (fv_gi τ 75) v
    obtain ⟨σ', τ', x3, m4, rel2⟩ := c_setb rel l w
    refine ⟨bh, σ', τ', wb, ?_, ?_, ?_⟩
    · unfold zX7_others; rw [if_neg (by decide), if_neg (by decide), if_neg (by decide), if_neg (by decide), if_pos rfl, s.1, xw, fv_bi_ri, x1, fv_bi_ri, s.1, x2, fv_bv_rv, x3, fv_bv_rv]
    · unfold zX8_doThird; rw [if_neg (by decide), if_neg (by decide), if_neg (by decide), if_neg (by decide), if_pos rfl, mw, fv_bi_ri, m1, fv_bi_ri, m2, fv_bv_rv, e1, m3, fv_bv_rv, m4, fv_bv_rv]
    · rw [hb, hq] at rel2; exact rel2
  · rw [if_neg (by decide), if_neg (by decide), if_neg (by decide)] at hq
    have rel := e_hl (e_de h (p_hl τ)) (p_de τ)
    rw [hb, hq] at rel
    refine ⟨bh, _, _, wb, ?_, ?_, rel⟩
    · unfold zX7_others; rw [if_neg (by decide), if_neg (by decide), if_neg (by decide), if_neg (by decide), if_neg (by decide), if_pos rfl, (x_de h).1, fv_bi_ri, (x_hl2 h).1, fv_bi_ri, x_sde, fv_bv_rv, x_shl, fv_bv_rv]
    · unfold zX8_doThird; rw [if_neg (by decide), if_neg (by decide), if_neg (by decide), if_neg (by decide), if_neg (by decide), if_pos rfl, m_de, fv_bi_ri, m_hl, fv_bi_ri, m_sde, fv_bv_rv, m_shl, fv_bv_rv]
  · rw [if_neg (by decide), if_neg (by decide), if_neg (by decide)] at hq
    have rel := e_he0 (e_l2 (e_l1 h (Or.inl rfl : p_bit 0)) (Or.inl rfl : p_bit 0)) h85
    rw [hb, hq] at rel
    exact ⟨bh, _, _, wb, rfl, rfl, rel⟩
  · rw [if_neg (by decide), if_neg (by decide), if_neg (by decide)] at hq
    refine ⟨bh, _, _, wb, rfl, rfl, ?_⟩
    have := e_he (e_l2 (e_l1 h (Or.inr rfl : p_bit 1)) (Or.inr rfl : p_bit 1)) (Or.inr rfl : p_bit 1)
    rw [hb, hq] at this; exact this
theorem x_high (N : Nat) (y z hh bh : Int32) (σ : fv_S) : zX7_high N y z hh bh σ = zX7_high_33 N y z hh bh (if y >>> (1 : Int32) = 3 then 4 else if y >>> (1 : Int32) = 2 then hh else y >>> (1 : Int32)) (y &&& 1) σ := by
  unfold zX7_high zX7_named zX7_high_19
  by_cases e3 : y >>> (1 : Int32) = 3
  · rw [if_neg (not_not_intro e3), if_pos e3]
    rcases p_bit1 y with e | e <;> rw [e]
    · rw [if_pos (by decide)]
    · rw [if_neg (by decide)]
  · rw [if_pos e3, if_neg e3]
    by_cases e2 : y >>> (1 : Int32) = 2
    · rw [if_neg (not_not_intro e2), if_pos e2, fv_bi_ri]
      rcases p_bit1 y with e | e <;> rw [e]
      · rw [if_pos (by decide)]
      · rw [if_neg (by decide)]
    · rw [if_pos e2, if_neg e2, fv_bi_ri]
      rcases p_bit1 y with e | e <;> rw [e]
      · rw [if_pos (by decide)]
      · rw [if_neg (by decide)]
theorem m_last (N : Nat) (τ : fv_S) {op y : Int32} (ho : fv_gi τ 61 = op) (hy : (op >>> (3 : Int32)) &&& 7 = y) : zX8_doLast N τ = zX8_doLast_26 N y (y >>> (1 : Int32)) (y &&& 1) τ := by
  unfold zX8_doLast
  rw [ho, hy]
  rcases p_bit1 y with e | e <;> rw [e]
  · rw [if_pos (by decide)]
  · rw [if_neg (by decide)]
def p_nb3 (y z : Int32) : Int32 := if z = 2 then 2 else if z = 4 then 2 else if z = 3 then (if y = 0 then 2 else if y = 2 then 1 else if y = 3 then 1 else 0) else if z = 5 then (if y = 1 then 2 else 0) else if z = 6 then 1 else 0
/-- AF: pushed, popped -/
theorem c_af {σ0 τ0 σ τ : fv_S} {p q : Int32} (h : pRel σ0 τ0 p q σ τ) : ∃ v, pw v ∧ zX7_pair 4 σ = fv_ri v σ ∧ zX8_at 0 τ = fv_ri v τ := by
  have a := g_r h 7 (by decide) (by decide)
  have b := g_f h
  refine ⟨_, pw_two a.2 b.2, ?_, rfl⟩
  rw [← a.1, ← b.1]; rfl
theorem c_setaf {σ0 τ0 σ τ : fv_S} {p q : Int32} (h : pRel σ0 τ0 p q σ τ) {v : Int32} (hv : pw v) : ∃ σ', zX7_setPair 4 v σ = fv_rv σ' ∧ pRel σ0 τ0 p q σ' (fv_sa (fv_sa τ 23 7 (v >>> (8 : Int32))) 23 6 (v &&& 255)) := by
  refine ⟨_, ?_, e_f (e_r h 7 (by decide) (by decide) (pw_shr8 hv)) (pb_a255 v)⟩
  rw [← show v &&& 65535 = v from hv]
  show fv_rv (fv_sa (fv_sa σ 36 7 (((v &&& 65535) &&& 65535) >>> (8 : Int32))) 36 8 (((v &&& 65535) &&& 65535) &&& 255)) = _
  rw [p_idem16]
theorem c_last {σ0 τ0 σ τ : fv_S} {p q : Int32} (h : pRel σ0 τ0 p q σ τ) (n : Nat) {y z hh bh : Int32} (l : pLk τ0 hh) (hy : p_y8 y) (hz : p_y8 z) (hop : fv_gi τ0 61 &&& 7 = z) (h31 : z = 3 → y ≠ 1) (h5 : z = 5 → y &&& 1 = 1 → y = 1)
    (hb : p = bh) (wb : pw bh) (ho : bh = fv_gi τ0 64 &&& 65535) (h85 : fv_gi τ 85 = 0) (hq : q = (bh + p_nb3 y z) &&& 65535) :
    ∃ r σ' τ', pw r ∧ zX7_high (n + 10) y z hh bh σ = fv_rv σ' ∧ zX8_doLast_26 (n + 10) y (y >>> (1 : Int32)) (y &&& 1) τ = fv_rv τ' ∧ pRel σ0 τ0 r r σ' τ' := by
  have h61 : fv_gi τ 61 &&& 7 = z := by rw [g_k h 61 (by omega)]; exact hop
  have h64 := g_k h 64 (by omega)
  have hbo : bh &&& 65535 = fv_gi τ 64 &&& 65535 := by rw [h64, show bh &&& 65535 = bh from wb]; exact ho
  have hbo0 : bh &&& 65535 = fv_gi τ0 64 &&& 65535 := by rw [← h64]; exact hbo
  have q4 := p_half hy
  obtain ⟨c, hc, xc, mc⟩ := c_holds h y
  rw [x_high]
  rcases hz with rfl | rfl | rfl | rfl | rfl | rfl | rfl | rfl
  · have hq' : q = bh := by
      rw [hq]; unfold p_nb3; rw [if_neg (by decide), if_neg (by decide), if_neg (by decide), if_neg (by decide), if_neg (by decide), p_add0 wb]
    rcases hc with rfl | rfl
    · refine ⟨bh, σ, τ, wb, ?_, ?_, ?_⟩
      · unfold zX7_high_33; rw [if_pos rfl, xc, fv_bi_ri, if_pos rfl]
      · unfold zX8_doLast_26; rw [h61, if_pos rfl, mc, fv_bi_ri, if_pos rfl]
      · rw [hb, hq'] at h; exact h
    · obtain ⟨v, σ', τ', hv, x1, m1, rel, _⟩ := c_pop h
      refine ⟨v, _, _, hv, ?_, ?_, e_pm (e_px rel v) v⟩
      · unfold zX7_high_33; rw [if_pos rfl, xc, fv_bi_ri, if_neg (by decide), x1, fv_bi_ri]
      · unfold zX8_doLast_26; rw [h61, if_pos rfl, mc, fv_bi_ri, if_neg (by decide), m1, fv_bi_ri]
  · have hq' : q = bh := by
      rw [hq]; unfold p_nb3; rw [if_neg (by decide), if_neg (by decide), if_neg (by decide), if_neg (by decide), if_neg (by decide), p_add0 wb]
    rcases p_bit1 y with e | e
    · obtain ⟨v, σ1, τ1, hv, x1, m1, rel, _⟩ := c_pop h
      by_cases e3 : y >>> (1 : Int32) = 3
      · obtain ⟨σ', x2, rel2⟩ := c_setaf rel hv
        rw [hb, hq'] at rel2
        refine ⟨bh, σ', _, wb, ?_, ?_, rel2⟩
        · unfold zX7_high_33; rw [e, if_neg (by decide), if_pos rfl, if_neg (by decide), x1, fv_bi_ri, if_pos e3, x2, fv_bv_rv]
        · unfold zX8_doLast_26 zX8_doReturns; rw [e, h61, if_neg (by decide), if_pos rfl, if_neg (by decide), m1, fv_bi_ri, if_neg (not_not_intro e3), fv_bv_rv]
      · obtain ⟨σ', τ', x2, m2, rel2⟩ := c_setp rel l q4 v
        refine ⟨bh, σ', τ', wb, ?_, ?_, ?_⟩
        · unfold zX7_high_33; rw [e, if_neg (by decide), if_pos rfl, if_neg (by decide), x1, fv_bi_ri, if_neg e3, x2, fv_bv_rv]
        · unfold zX8_doLast_26 zX8_doReturns; rw [e, h61, if_neg (by decide), if_pos rfl, if_neg (by decide), m1, fv_bi_ri, if_pos e3, m2, fv_bv_rv, fv_bv_rv]
        · rw [hb, hq'] at rel2; exact rel2
    · have y4 : y = 1 ∨ y = 3 ∨ y = 5 ∨ y = 7 := by
        rcases hy with rfl | rfl | rfl | rfl | rfl | rfl | rfl | rfl
        · exact absurd e (by decide)
        · exact Or.inl rfl
        · exact absurd e (by decide)
        · exact Or.inr (Or.inl rfl)
        · exact absurd e (by decide)
        · exact Or.inr (Or.inr (Or.inl rfl))
        · exact absurd e (by decide)
        · exact Or.inr (Or.inr (Or.inr rfl))
      rcases y4 with rfl | rfl | rfl | rfl
      · obtain ⟨v, σ', τ', hv, x1, m1, rel, _⟩ := c_pop h
        refine ⟨v, _, _, hv, ?_, ?_, e_pm (e_px rel v) v⟩
        · unfold zX7_high_33; rw [if_neg (by decide), if_pos rfl, if_pos (by decide), if_neg (by decide), x1, fv_bi_ri]
        · unfold zX8_doLast_26 zX8_doReturns; rw [h61, if_neg (by decide), if_pos rfl, if_pos (by decide), if_neg (by decide), m1, fv_bi_ri, fv_bv_rv]
      · obtain ⟨σ', τ', x1, m1, rel⟩ := c_exx h n
        refine ⟨bh, σ', τ', wb, ?_, ?_, ?_⟩
        · unfold zX7_high_33; rw [if_neg (by decide), if_pos rfl, if_pos (by decide), if_pos (by decide), if_neg (by decide), x1, fv_bv_rv]
        · unfold zX8_doLast_26 zX8_doReturns; rw [h61, if_neg (by decide), if_pos rfl, if_pos (by decide), if_pos (by decide), if_neg (by decide), m1, fv_bv_rv]
        · rw [hb, hq'] at rel; exact rel
      · obtain ⟨v, hv, x1, m1⟩ := c_base h l
        refine ⟨v, _, _, hv, ?_, ?_, e_pm (e_px h v) v⟩
        · unfold zX7_high_33; rw [if_neg (by decide), if_pos rfl, if_pos (by decide), if_pos (by decide), if_pos (by decide), if_neg (by decide), x1, fv_bi_ri]
        · unfold zX8_doLast_26 zX8_doReturns; rw [h61, if_neg (by decide), if_pos rfl, if_pos (by decide), if_pos (by decide), if_pos (by decide), if_neg (by decide), m1, fv_bi_ri, fv_bv_rv]
      · obtain ⟨v, hv, x1, m1⟩ := c_base h l
        have rel := e_sp h hv
        rw [hb, hq'] at rel
        refine ⟨bh, _, _, wb, ?_, ?_, rel⟩
        · unfold zX7_high_33; rw [if_neg (by decide), if_pos rfl, if_pos (by decide), if_pos (by decide), if_pos (by decide), if_pos (by decide), x1, fv_bi_ri]
        · unfold zX8_doLast_26 zX8_doReturns; rw [h61, if_neg (by decide), if_pos rfl, if_pos (by decide), if_pos (by decide), if_pos (by decide), if_pos (by decide), m1, fv_bi_ri, fv_bv_rv]
  · have hq' : q = (bh + 2) &&& 65535 := by
      rw [hq]; unfold p_nb3; rw [if_pos rfl]
    rcases hc with rfl | rfl
    · refine ⟨_, _, τ, pw_a (bh + 2), ?_, ?_, hq' ▸ e_px h ((bh + 2) &&& 65535)⟩
      · unfold zX7_high_33 zX7_high_201; rw [if_neg (by decide), if_neg (by decide), if_pos rfl, xc, fv_bi_ri, if_pos rfl]
      · unfold zX8_doLast_26; rw [h61, if_neg (by decide), if_neg (by decide), if_pos rfl, mc, fv_bi_ri, if_pos rfl]
    · obtain ⟨w, hw, xw, mw⟩ := c_wide h hbo
      refine ⟨w, _, _, hw, ?_, ?_, e_pm (e_px h w) w⟩
      · unfold zX7_high_33 zX7_high_201; rw [if_neg (by decide), if_neg (by decide), if_pos rfl, xc, fv_bi_ri, if_neg (by decide), xw, fv_bi_ri]
      · unfold zX8_doLast_26; rw [h61, if_neg (by decide), if_neg (by decide), if_pos rfl, mc, fv_bi_ri, if_neg (by decide), mw, fv_bi_ri]
  · have hq' : q = if y = 0 then (bh + 2) &&& 65535 else if y = 2 then (bh + 1) &&& 65535 else if y = 3 then (bh + 1) &&& 65535 else bh := by
      rw [hq]; unfold p_nb3; rw [if_neg (by decide), if_neg (by decide), if_pos rfl]
      by_cases e0 : y = 0
      · rw [if_pos e0, if_pos e0]
      · rw [if_neg e0, if_neg e0]
        by_cases e2 : y = 2
        · rw [if_pos e2, if_pos e2]
        · rw [if_neg e2, if_neg e2]
          by_cases e3 : y = 3
          · rw [if_pos e3, if_pos e3]
          · rw [if_neg e3, if_neg e3, p_add0 wb]
    obtain ⟨r, σ', τ', hr, x1, m1, rel⟩ := c_third h l hy (h31 rfl) hb wb ho h85 hq'
    refine ⟨r, σ', τ', hr, ?_, ?_, rel⟩
    · unfold zX7_high_33; rw [if_neg (by decide), if_neg (by decide), if_neg (by decide), if_pos rfl, x1, fv_bv_rv]
    · unfold zX8_doLast_26; rw [h61, if_neg (by decide), if_neg (by decide), if_neg (by decide), if_pos rfl, m1, fv_bv_rv]
  · have hq' : q = (bh + 2) &&& 65535 := by
      rw [hq]; unfold p_nb3; rw [if_neg (by decide), if_pos rfl]
    rcases hc with rfl | rfl
    · refine ⟨_, _, τ, pw_a (bh + 2), ?_, ?_, hq' ▸ e_px h ((bh + 2) &&& 65535)⟩
      · unfold zX7_high_33 zX7_call; rw [if_neg (by decide), if_neg (by decide), if_neg (by decide), if_neg (by decide), if_pos rfl, xc, fv_bi_ri, if_neg (by decide), fv_bv_rv]
      · unfold zX8_doLast_26; rw [h61, if_neg (by decide), if_neg (by decide), if_neg (by decide), if_neg (by decide), if_pos rfl, mc, fv_bi_ri, if_pos rfl]
    · obtain ⟨r, σ', τ1, τ', hr, x1, m1, m2, e4, rel⟩ := c_call h hbo0 hq'
      refine ⟨r, σ', τ', hr, ?_, ?_, rel⟩
      · unfold zX7_high_33; rw [if_neg (by decide), if_neg (by decide), if_neg (by decide), if_neg (by decide), if_pos rfl, xc, fv_bi_ri, x1, fv_bv_rv]
      · unfold zX8_doLast_26; rw [h61, if_neg (by decide), if_neg (by decide), if_neg (by decide), if_neg (by decide), if_pos rfl, mc, fv_bi_ri, if_neg (by decide), m1, fv_bi_ri, m2, fv_bv_rv, e4]
  · rcases p_bit1 y with e | e
    · have hq' : q = bh := by
        rw [hq]; unfold p_nb3; rw [if_neg (by decide), if_neg (by decide), if_neg (by decide), if_pos rfl, if_neg (fun e1 => by rw [e1] at e; exact absurd e (by decide)), p_add0 wb]
      by_cases e3 : y >>> (1 : Int32) = 3
      · obtain ⟨v, hv, x1, m1⟩ := c_af h
        obtain ⟨σ', τ', x2, m2, rel, _⟩ := c_push h v
        rw [hb, hq'] at rel
        refine ⟨bh, σ', τ', wb, ?_, ?_, rel⟩
        · unfold zX7_high_33; rw [e, if_neg (by decide), if_neg (by decide), if_neg (by decide), if_neg (by decide), if_neg (by decide), if_pos rfl, if_pos rfl, if_pos e3, x1, fv_bi_ri, x2, fv_bv_rv]
        · unfold zX8_doLast_26 zX8_doLast_220; rw [e, h61, if_neg (by decide), if_neg (by decide), if_neg (by decide), if_neg (by decide), if_neg (by decide), if_pos rfl, if_pos rfl, if_neg (not_not_intro e3), m1, fv_bi_ri, m2, fv_bv_rv]
      · obtain ⟨v, hv, x1, m1⟩ := c_pair h l q4
        obtain ⟨σ', τ', x2, m2, rel, _⟩ := c_push h v
        rw [hb, hq'] at rel
        refine ⟨bh, σ', τ', wb, ?_, ?_, rel⟩
        · unfold zX7_high_33; rw [e, if_neg (by decide), if_neg (by decide), if_neg (by decide), if_neg (by decide), if_neg (by decide), if_pos rfl, if_pos rfl, if_neg e3, x1, fv_bi_ri, x2, fv_bv_rv]
        · unfold zX8_doLast_26 zX8_doLast_220; rw [e, h61, if_neg (by decide), if_neg (by decide), if_neg (by decide), if_neg (by decide), if_neg (by decide), if_pos rfl, if_pos rfl, if_pos e3, m1, fv_bi_ri, m2, fv_bv_rv]
    · have hq' : q = (bh + 2) &&& 65535 := by
        rw [hq]; unfold p_nb3; rw [if_neg (by decide), if_neg (by decide), if_neg (by decide), if_pos rfl, if_pos (h5 rfl e)]
      obtain ⟨r, σ', τ1, τ', hr, x1, m1, m2, e4, rel⟩ := c_call h hbo0 hq'
      refine ⟨r, σ', τ', hr, ?_, ?_, rel⟩
      · unfold zX7_high_33; rw [e, if_neg (by decide), if_neg (by decide), if_neg (by decide), if_neg (by decide), if_neg (by decide), if_pos rfl, if_neg (by decide), x1, fv_bv_rv]
      · unfold zX8_doLast_26; rw [e, h61, if_neg (by decide), if_neg (by decide), if_neg (by decide), if_neg (by decide), if_neg (by decide), if_pos rfl, if_neg (by decide), m1, fv_bi_ri, m2, fv_bv_rv, e4]
  · have hq' : q = (bh + 1) &&& 65535 := by
      rw [hq]; unfold p_nb3; rw [if_neg (by decide), if_neg (by decide), if_neg (by decide), if_neg (by decide), if_pos rfl]
    have hp := e_px h ((bh + 1) &&& 65535)
    obtain ⟨v, hv, x1, m1⟩ := c_get hp hbo
    obtain ⟨σ', τ', x2, m2, rel⟩ := c_arith hp hy hv
    rw [hq'] at rel
    refine ⟨_, σ', τ', pw_a (bh + 1), ?_, ?_, rel⟩
    · unfold zX7_high_33; rw [if_neg (by decide), if_neg (by decide), if_neg (by decide), if_neg (by decide), if_neg (by decide), if_neg (by decide), if_pos rfl, x1, fv_bi_ri, x2, fv_bv_rv]
    · unfold zX8_doLast_26; rw [h61, if_neg (by decide), if_neg (by decide), if_neg (by decide), if_neg (by decide), if_neg (by decide), if_neg (by decide), if_pos rfl, m1, fv_bi_ri, m2, fv_bv_rv]
  · have hq' : q = bh := by
      rw [hq]; unfold p_nb3; rw [if_neg (by decide), if_neg (by decide), if_neg (by decide), if_neg (by decide), if_neg (by decide), p_add0 wb]
    obtain ⟨σ', τ', x2, m2, rel, _⟩ := c_push h bh
    have hr : pw ((8 : Int32) * y) := by
      rcases hy with rfl | rfl | rfl | rfl | rfl | rfl | rfl | rfl <;> rfl
    refine ⟨(8 : Int32) * y, _, _, hr, ?_, ?_, e_pm (e_px rel _) _⟩
    · unfold zX7_high_33; rw [if_neg (by decide), if_neg (by decide), if_neg (by decide), if_neg (by decide), if_neg (by decide), if_neg (by decide), if_neg (by decide), g_px h, hb, x2, fv_bv_rv]
    · unfold zX8_doLast_26; rw [h61, if_neg (by decide), if_neg (by decide), if_neg (by decide), if_neg (by decide), if_neg (by decide), if_neg (by decide), if_neg (by decide), g_pm h, hq', m2, fv_bv_rv]
