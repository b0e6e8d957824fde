set_option maxRecDepth 100000
set_option maxHeartbeats 4000000
/-! The plain law: loads, jumps, ports. -/
theorem c_put2 {σ0 τ0 σ τ : fv_S} {p q : Int32} (h : pRel σ0 τ0 p q σ τ) (a v : Int32) : ∃ σ' τ1 τ', zX7_put16 a v σ = fv_rv σ' ∧ zX8_store a v τ = fv_rv τ1 ∧ zX8_store (a + 1) (v >>> (8 : Int32)) τ1 = fv_rv τ' ∧ pRel σ0 τ0 p q σ' τ' ∧ fv_gi τ1 75 = fv_gi τ 75 :=
  ⟨_, _, _, x_put16 a v σ, m_store a v τ, m_store (a + 1) (v >>> (8 : Int32)) _, e_m (e_m h _ v) _ _, rfl⟩
/-- LD A,(BC) and its like: y one of eight; the class's counter moves by two where a number stands behind -/
theorem c_load {σ0 τ0 σ τ : fv_S} {p q : Int32} (h : pRel σ0 τ0 p q σ τ) {hh : Int32} (l : pLk τ0 hh) {y bh : Int32} (hy : p_y8 y) (hb : bh &&& 65535 = fv_gi τ0 64 &&& 65535) : ∃ σ' τ', zX7_loads y hh bh σ = fv_rv σ' ∧ zX8_doLoad y τ = fv_rv τ' ∧ pRel σ0 τ0 (if y ≤ 3 then p else (bh + 2) &&& 65535) q σ' τ' := by
  have hA := g_r h 7 (by decide) (by decide)
  have ho := g_k h 64 (by omega)
  obtain ⟨w, hw, xw, mw⟩ := c_wide h (a := bh) (a' := fv_gi τ 64) (by rw [hb, ho])
  have hp := e_px h ((bh + 2) &&& 65535)
  have hA' := g_r hp 7 (by decide) (by decide)
  rcases hy with rfl | rfl | rfl | rfl | rfl | rfl | rfl | rfl
  · refine ⟨_, _, ?_, ?_, e_m h (p_bc τ &&& 65535) (fv_ga τ 23 7)⟩
    · simp (decide := true) only [zX7_loads, zX7_loads_10, zX7_loads_32, zX7_loads_49, if_true, if_false, not_true, not_false_eq_true, show (0 : Int32) >>> (1 : Int32) = 0 from rfl, (x_bc h).1, fv_bi_ri, x_put, fv_bv_rv, hA.1]
    · simp (decide := true) only [zX8_doLoad, zX8_doLoad_34, zX8_doLoad_84, if_true, if_false, m_bc, fv_bi_ri, m_store, fv_bv_rv]
  · obtain ⟨v, hv, x1, m1⟩ := c_get h (a := p_bc τ) (a' := p_bc τ) rfl
    refine ⟨_, _, ?_, ?_, e_r h 7 (by decide) (by decide) hv⟩
    · simp (decide := true) only [zX7_loads, zX7_loads_10, zX7_loads_32, zX7_loads_49, if_true, if_false, not_true, not_false_eq_true, show (1 : Int32) >>> (1 : Int32) = 0 from rfl, (x_bc h).1, fv_bi_ri, x1]
    · simp (decide := true) only [zX8_doLoad, zX8_doLoad_34, zX8_doLoad_99, if_true, if_false, m_bc, fv_bi_ri, m1]
  · refine ⟨_, _, ?_, ?_, e_m h (p_de τ &&& 65535) (fv_ga τ 23 7)⟩
    · simp (decide := true) only [zX7_loads, zX7_loads_10, zX7_loads_32, zX7_loads_49, if_true, if_false, not_true, not_false_eq_true, show (2 : Int32) >>> (1 : Int32) = 1 from rfl, (x_de h).1, fv_bi_ri, x_put, fv_bv_rv, hA.1]
    · simp (decide := true) only [zX8_doLoad, zX8_doLoad_34, zX8_doLoad_84, if_true, if_false, m_de, fv_bi_ri, m_store, fv_bv_rv]
  · obtain ⟨v, hv, x1, m1⟩ := c_get h (a := p_de τ) (a' := p_de τ) rfl
    refine ⟨_, _, ?_, ?_, e_r h 7 (by decide) (by decide) hv⟩
    · simp (decide := true) only [zX7_loads, zX7_loads_10, zX7_loads_32, zX7_loads_49, if_true, if_false, not_true, not_false_eq_true, show (3 : Int32) >>> (1 : Int32) = 1 from rfl, (x_de h).1, fv_bi_ri, x1]
    · simp (decide := true) only [zX8_doLoad, zX8_doLoad_34, zX8_doLoad_99, if_true, if_false, m_de, fv_bi_ri, m1]
  · obtain ⟨v, hv, x1, m1⟩ := c_base hp l
    obtain ⟨σ', τ1, τ', x2, m2, m3, r, _⟩ := c_put2 hp w v
    refine ⟨σ', τ', ?_, ?_, r⟩
    · show fv_bi (zX7_get16 bh σ) _ _ = _
      rw [xw, fv_bi_ri]
      show fv_bi (zX7_pair hh (fv_si σ 4358 ((bh + 2) &&& 65535))) _ _ = _
      rw [x1, fv_bi_ri, x2, fv_bv_rv]
    · show fv_bi (zX8_wide (fv_gi τ 64) τ) _ _ = _
      rw [mw, fv_bi_ri]
      show fv_bi (zX8_base τ) _ _ = _
      rw [m1, fv_bi_ri, m2, fv_bv_rv, m3, fv_bv_rv]
  · obtain ⟨v, hv, x1, m1⟩ := c_wide hp (a := w) (a' := w) rfl
    obtain ⟨σ', τ', x2, m2, r⟩ := c_setb hp l v
    refine ⟨σ', τ', ?_, ?_, r⟩
    · show fv_bi (zX7_get16 bh σ) _ _ = _
      rw [xw, fv_bi_ri]
      show fv_bi (zX7_get16 w (fv_si σ 4358 ((bh + 2) &&& 65535))) _ _ = _
      rw [x1, fv_bi_ri, x2, fv_bv_rv]
    · show fv_bi (zX8_wide (fv_gi τ 64) τ) _ _ = _
      rw [mw, fv_bi_ri]
      show fv_bi (zX8_wide w τ) _ _ = _
      rw [m1, fv_bi_ri, m2, fv_bv_rv]
  · refine ⟨_, _, ?_, ?_, e_m hp (w &&& 65535) (fv_ga τ 23 7)⟩
    · show fv_bi (zX7_get16 bh σ) _ _ = _
      rw [xw, fv_bi_ri]
      show fv_bv (zX7_put w (fv_ga (fv_si σ 4358 ((bh + 2) &&& 65535)) 36 7) (fv_si σ 4358 ((bh + 2) &&& 65535))) _ _ = _
      rw [x_put, fv_bv_rv, hA'.1]
    · show fv_bi (zX8_wide (fv_gi τ 64) τ) _ _ = _
      rw [mw, fv_bi_ri]
      show fv_bv (zX8_store w (fv_ga τ 23 7) τ) _ _ = _
      rw [m_store, fv_bv_rv]
  · obtain ⟨v, hv, x1, m1⟩ := c_get hp (a := w) (a' := w) rfl
    refine ⟨_, _, ?_, ?_, e_r hp 7 (by decide) (by decide) hv⟩
    · show fv_bi (zX7_get16 bh σ) _ _ = _
      rw [xw, fv_bi_ri]
      show fv_bi (zX7_get w (fv_si σ 4358 ((bh + 2) &&& 65535))) _ _ = _
      rw [x1, fv_bi_ri]
    · show fv_bi (zX8_wide (fv_gi τ 64) τ) _ _ = _
      rw [mw, fv_bi_ri]
      show fv_bi (zX8_peek w τ) _ _ = _
      rw [m1, fv_bi_ri]
theorem p_sg : ∀ n, n < 256 → p_se (Int32.ofNat n) = if (127 : Int32) < Int32.ofNat n then Int32.ofNat n - (256 : Int32) else Int32.ofNat n := by decide +kernel
theorem m_signed {v : Int32} (h : pb v) (τ : fv_S) : zX8_signed v τ = fv_ri (p_se v) τ := by
  obtain ⟨n, hn, rfl⟩ := pb_n h
  unfold zX8_signed
  rw [p_sg n hn]
  by_cases e : (127 : Int32) < Int32.ofNat n
  · rw [if_neg (by rw [Int32.not_le]; exact e), if_pos e]
  · rw [if_pos (Int32.not_lt.1 e), if_neg e]
/-- jumps near by: the class stands at 'at', the model's counter is behind already -/
theorem c_jump {σ0 τ0 σ τ : fv_S} {p q : Int32} (h : pRel σ0 τ0 p q σ τ) {g at_ : Int32} (hg : p_bit g) (ha : (at_ + 1) &&& 65535 = fv_gi τ0 64 &&& 65535) (hq : q = (at_ + 2) &&& 65535) : ∃ r σ' τ', pw r ∧ zX7_jumpBy g at_ σ = fv_rv σ' ∧ zX8_doNear_79 g τ = fv_rv τ' ∧ pRel σ0 τ0 r r σ' τ' := by
  have ho := g_k h 64 (by omega)
  rcases hg with rfl | rfl
  · exact ⟨_, _, _, pw_a (at_ + 2), rfl, rfl, hq ▸ e_px h ((at_ + 2) &&& 65535)⟩
  · have hp := e_px h ((at_ + 2) &&& 65535)
    obtain ⟨v, hv, x1, m1⟩ := c_get hp (a := at_ + 1) (a' := fv_gi τ 64) (by rw [ha, ho])
    refine ⟨((((at_ + 2) &&& 65535) + p_se v) &&& 65535), _, _, pw_a _, ?_, ?_, e_pm (e_px hp _) _⟩
    · show fv_bi (zX7_get (at_ + 1) (fv_si σ 4358 ((at_ + 2) &&& 65535))) _ _ = _
      rw [x1, fv_bi_ri]; rfl
    · show fv_bi (zX8_peek (fv_gi τ 64) τ) _ _ = _
      rw [m1, fv_bi_ri, m_signed hv, fv_bi_ri, g_pm h, hq]
/-- what z = 0 says among the first: y one of eight -/
theorem c_near {σ0 τ0 σ τ : fv_S} {p q : Int32} (h : pRel σ0 τ0 p q σ τ) (n : Nat) {y at_ bh : Int32} (hy : p_y8 y) (hb : p = bh) (wb : pw bh) (hat : (at_ + 1) &&& 65535 = bh) (ho : bh = fv_gi τ0 64 &&& 65535) (hq : q = if y ≤ 1 then bh else (bh + 1) &&& 65535) : ∃ r σ' τ', pw r ∧ zX7_relative (n + 10) y at_ σ = fv_rv σ' ∧ zX8_doNear y τ = fv_rv τ' ∧ pRel σ0 τ0 r r σ' τ' := by
  have hq2 : (bh + 1) &&& 65535 = (at_ + 2) &&& 65535 := by
    rw [← hat, p_add16 (p_idem16 (at_ + 1)) 1, Int32.add_assoc]; rfl
  have cond : ∀ {σ τ : fv_S} (_ : pRel σ0 τ0 p ((bh + 1) &&& 65535) σ τ) (c : Int32), ∃ r σ' τ', pw r ∧ fv_bi (zX7_holds c σ) (fun r4 σ3 => if r4 = 0 then zX7_relative_87 (n + 10) at_ 0 σ3 else zX7_relative_82 (n + 10) at_ σ3) fv_no = fv_rv σ' ∧ fv_bi (zX8_holds c τ) (fun r6 σ5 => zX8_doNear_79 r6 σ5) fv_no = fv_rv τ' ∧ pRel σ0 τ0 r r σ' τ' := by
    intro σ τ h c
    obtain ⟨v, hv, x1, m1⟩ := c_holds h c
    obtain ⟨r, σ', τ', hr, x2, m2, rel⟩ := c_jump h hv (hat.trans ho) hq2
    refine ⟨r, σ', τ', hr, ?_, ?_, rel⟩
    · rw [x1, fv_bi_ri]
      rcases hv with rfl | rfl
      · unfold zX7_relative_87
        rw [if_pos rfl, x2, fv_bv_rv]
      · unfold zX7_relative_82 zX7_relative_87
        rw [if_neg (by decide), x2, fv_bv_rv]
    · rw [m1, fv_bi_ri, m2]
  rcases hy with rfl | rfl | rfl | rfl | rfl | rfl | rfl | rfl
  · refine ⟨bh, σ, τ, wb, rfl, rfl, ?_⟩
    rw [if_pos (by decide)] at hq
    rw [hb, hq] at h; exact h
  · obtain ⟨σ', τ', τ1, x1, m1, m2, r⟩ := c_exaf h n
    refine ⟨bh, σ', τ', wb, ?_, ?_, ?_⟩
    · unfold zX7_relative
      rw [if_pos (by decide), if_neg (by decide), x1, fv_bv_rv]
    · unfold zX8_doNear
      rw [if_pos (by decide), if_neg (by decide), m1, fv_bv_rv, m2, fv_bv_rv]
    · rw [if_pos (by decide)] at hq
      rw [hb, hq] at r; exact r
  · rw [if_neg (by decide)] at hq
    have h0 := g_r h 0 (by decide) (by decide)
    have h1 := e_r h 0 (v := (fv_ga τ 23 0 - 1) &&& 255) (by decide) (by decide) (pb_a255 _)
    by_cases e : (fv_ga τ 23 0 - 1) &&& 255 = 0
    · obtain ⟨r, σ', τ', hr, x2, m2, rel⟩ := c_jump h1 (Or.inl rfl) (hat.trans ho) (hq.trans hq2)
      refine ⟨r, σ', τ', hr, ?_, ?_, rel⟩
      · unfold zX7_relative zX7_relative_59
        rw [if_pos (by decide), if_pos (by decide), if_neg (by decide), h0.1, if_pos e, x2, fv_bv_rv]
      · unfold zX8_doNear zX8_doNear_62
        rw [if_pos (by decide), if_pos (by decide), if_neg (by decide), if_pos e, m2]
    · obtain ⟨r, σ', τ', hr, x2, m2, rel⟩ := c_jump h1 (Or.inr rfl) (hat.trans ho) (hq.trans hq2)
      refine ⟨r, σ', τ', hr, ?_, ?_, rel⟩
      · unfold zX7_relative zX7_relative_59
        rw [if_pos (by decide), if_pos (by decide), if_neg (by decide), h0.1, if_neg e, x2, fv_bv_rv]
      · unfold zX8_doNear zX8_doNear_62
        rw [if_pos (by decide), if_pos (by decide), if_neg (by decide), if_neg e, m2]
  · rw [if_neg (by decide)] at hq
    obtain ⟨r, σ', τ', hr, x2, m2, rel⟩ := c_jump h (Or.inr rfl) (hat.trans ho) (hq.trans hq2)
    refine ⟨r, σ', τ', hr, ?_, m2, rel⟩
    show fv_bv (zX7_jumpBy 1 at_ σ) _ _ = _
    rw [x2, fv_bv_rv]
  · rw [if_neg (by decide)] at hq; rw [hq] at h; exact cond h (4 - 4)
  · rw [if_neg (by decide)] at hq; rw [hq] at h; exact cond h (5 - 4)
  · rw [if_neg (by decide)] at hq; rw [hq] at h; exact cond h (6 - 4)
  · rw [if_neg (by decide)] at hq; rw [hq] at h; exact cond h (7 - 4)
/-- ports -/
theorem c_out {σ0 τ0 σ τ : fv_S} {p q : Int32} (h : pRel σ0 τ0 p q σ τ) (a v : Int32) : ∃ σ' τ', zX7_out a v σ = fv_rv σ' ∧ zX8_outPort a v τ = fv_rv τ' ∧ pRel σ0 τ0 p q σ' τ' ∧ fv_gw τ' 23 = fv_gw τ 23 := by
  refine ⟨_, _, ?_, ?_, e_oc (e_ou h (a &&& 255) (pb_a255 v)) (fv_gl τ 86 + 1), rfl⟩
  · unfold zX7_out; rw [if_pos (p_in8 a), g_oc h]
  · unfold zX8_outPort; rw [if_pos (p_in8 a)]
theorem x_in {σ0 τ0 σ τ : fv_S} {p q : Int32} (h : pRel σ0 τ0 p q σ τ) {a : Int32} (ha : pb a) : zX7_in a σ = fv_ri (fv_ga τ 26 a) σ ∧ pb (fv_ga τ 26 a) := by
  refine ⟨?_, (g_in h a ha).2⟩
  unfold zX7_in; rw [if_pos (p_in8 a), show a &&& 255 = a from ha, (g_in h a ha).1]
