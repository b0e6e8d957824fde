set_option maxRecDepth 100000
set_option maxHeartbeats 4000000
/-! The plain law: blocks of ports, all that stands behind 237. -/
theorem c_ini {σ0 τ0 σ τ : fv_S} {p q : Int32} (h : pRel σ0 τ0 p q σ τ) (s : Int32) : ∃ σ' τ', zX7_inBlock s σ = fv_rv σ' ∧ fv_ga σ' 36 0 = fv_ga τ' 23 0 ∧
    (∀ y at_, zX8_doBlock_11 y 2 at_ s τ = if fv_ga τ' 23 0 = 0 then zX8_doBlock_504 y at_ 0 τ' else zX8_doBlock_504 y at_ 1 τ') ∧ pRel σ0 τ0 p q σ' τ' := by
  have h1 := g_r h 1 (by decide) (by decide)
  have i := x_in h h1.2
  have r1 := e_m h (p_hl τ &&& 65535) (fv_ga τ 26 (fv_ga τ 23 1))
  have r2 := e_hl r1 (p_hl τ + s)
  generalize hσ : p_uX (fv_sa σ 35 (p_hl τ &&& 65535) (p_se (fv_ga τ 26 (fv_ga τ 23 1)))) 4 5 (p_hl τ + s) = σ2 at r2
  generalize hτ : p_uM (fv_sa τ 13 (p_hl τ &&& 65535) (fv_ga τ 26 (fv_ga τ 23 1) &&& 255)) 4 5 (p_hl τ + s) = τ2 at r2
  have h0 := g_r r2 0 (by decide) (by decide)
  have h12 := g_r r2 1 (by decide) (by decide)
  have r3 := e_r r2 0 (v := (fv_ga τ2 23 0 - 1) &&& 255) (by decide) (by decide) (pb_a255 _)
  obtain ⟨f, hf, x2, m2⟩ := c_cnt r3 i.2 (fv_ga τ 26 (fv_ga τ 23 1) + ((fv_ga τ2 23 1 + s) &&& 255))
  refine ⟨_, _, ?_, ?_, fun y at_ => ?_, e_f r3 hf⟩
  · unfold zX7_inBlock
    rw [h1.1, i.1, fv_bi_ri, (x_hl h).1, fv_bi_ri, x_put, fv_bv_rv, (x_hl r1).1, fv_bi_ri, x_shl, fv_bv_rv]
    rw [show p_hl (fv_sa τ 13 (p_hl τ &&& 65535) (fv_ga τ 26 (fv_ga τ 23 1) &&& 255)) = p_hl τ from rfl, hσ, h12.1, h0.1, x2, fv_bv_rv]
  · rfl
  · unfold zX8_doBlock_11 zX8_doBlock_420
    rw [m_hl, fv_bi_ri, if_neg (by decide), if_neg (by decide), if_pos rfl, if_pos (p_in256 h1.2), m_store, fv_bv_rv, m_shl, fv_bv_rv, hτ, m2, fv_bv_rv]
theorem c_outi {σ0 τ0 σ τ : fv_S} {p q : Int32} (h : pRel σ0 τ0 p q σ τ) (s : Int32) : ∃ σ' τ', zX7_outBlock s σ = fv_rv σ' ∧ fv_ga σ' 36 0 = fv_ga τ' 23 0 ∧
    (∀ y at_, zX8_doBlock_11 y 3 at_ s τ = if fv_ga τ' 23 0 = 0 then zX8_doBlock_504 y at_ 0 τ' else zX8_doBlock_504 y at_ 1 τ') ∧ pRel σ0 τ0 p q σ' τ' := by
  obtain ⟨v, hv, x1, m1⟩ := c_get h (a := p_hl τ) (a' := p_hl τ) rfl
  have h0 := g_r h 0 (by decide) (by decide)
  have h1 := g_r h 1 (by decide) (by decide)
  have r1 := e_r h 0 (v := (fv_ga τ 23 0 - 1) &&& 255) (by decide) (by decide) (pb_a255 _)
  obtain ⟨σ2, τ2, x2, m2, r2, e2⟩ := c_out r1 (fv_ga τ 23 1) v
  have ehl : p_hl τ2 = p_hl τ := by unfold p_hl; show (fv_gw τ2 23 _ <<< (8 : Int32)) ||| fv_gw τ2 23 _ = _; rw [e2]; rfl
  have r3 := e_hl r2 (p_hl τ + s)
  have h5 := g_r r3 5 (by decide) (by decide)
  obtain ⟨f, hf, x3, m3⟩ := c_cnt r3 hv (v + fv_ga (p_uM τ2 4 5 (p_hl τ + s)) 23 5)
  have h00 := g_r (e_f r3 hf) 0 (by decide) (by decide)
  refine ⟨_, _, ?_, h00.1, fun y at_ => ?_, e_f r3 hf⟩
  · unfold zX7_outBlock
    rw [(x_hl h).1, fv_bi_ri, x1, fv_bi_ri, h1.1, h0.1, x2, fv_bv_rv, (x_hl r2).1, fv_bi_ri, ehl, x_shl, fv_bv_rv, h5.1, x3, fv_bv_rv]
  · unfold zX8_doBlock_11 zX8_doBlock_502
    rw [m_hl, fv_bi_ri, if_neg (by decide), if_neg (by decide), if_neg (by decide), m1, fv_bi_ri, m2, fv_bv_rv, m_shl, fv_bv_rv, m3, fv_bv_rv]
theorem c_block {σ0 τ0 σ τ : fv_S} {bh : Int32} (h : pRel σ0 τ0 bh bh σ τ) (wb : pw bh) {y z at_ : Int32} (hz : z = 0 ∨ z = 1 ∨ z = 2 ∨ z = 3) (wa : pw at_) : ∃ r σ' τ', pw r ∧ zX7_block y z at_ σ = fv_rv σ' ∧ zX8_doBlock y z at_ τ = fv_rv τ' ∧ pRel σ0 τ0 r r σ' τ' := by
  have key : ∀ s, ∃ r σ' τ', pw r ∧ zX7_block_11 y z at_ s σ = fv_rv σ' ∧ zX8_doBlock_11 y z at_ s τ = fv_rv τ' ∧ pRel σ0 τ0 r r σ' τ' := by
    intro s
    rcases hz with rfl | rfl | rfl | rfl
    · obtain ⟨σ1, τ1, g, x1, x2, m1, rel⟩ := c_ldi h s
      obtain ⟨r, σ', τ', hr, x3, m3, rel2⟩ := c_again rel wb y (g := g) wa
      refine ⟨r, σ', τ', hr, ?_, ?_, rel2⟩
      · unfold zX7_block_11; rw [if_neg (by decide), x1, fv_bv_rv, x2, fv_bi_ri, x3]
      · rw [m1, m3]
    · obtain ⟨σ1, τ1, c, x1, hc, f4, m1, rel⟩ := c_cpi h s
      have I4 : zX7_is 4 σ1 = fv_ri (if c = 0 then 0 else 1) σ1 := by rw [x_is rel, f4]
      have I64 := x_is rel 64
      rcases hc with rfl | rfl
      · obtain ⟨r, σ', τ', hr, x3, m3, rel2⟩ := c_again rel wb y (g := 0) wa
        refine ⟨r, σ', τ', hr, ?_, ?_, rel2⟩
        · unfold zX7_block_11 zX7_block_65 zX7_block_66; rw [if_pos (by decide), if_neg (by decide), x1, fv_bv_rv, I4, if_pos rfl, fv_bi_ri, if_pos rfl, x3]
        · rw [m1, if_pos rfl, m3]
      · by_cases e : fv_ga τ1 23 6 &&& 64 = 0
        · obtain ⟨r, σ', τ', hr, x3, m3, rel2⟩ := c_again rel wb y (g := 1) wa
          refine ⟨r, σ', τ', hr, ?_, ?_, rel2⟩
          · rw [if_pos e] at I64
            unfold zX7_block_11 zX7_block_66; rw [if_pos (by decide), if_neg (by decide), x1, fv_bv_rv, I4, if_neg (by decide), fv_bi_ri, if_neg (by decide), I64, fv_bi_ri, if_neg (by decide), x3]
          · rw [m1, if_neg (by decide), if_pos e, m3]
        · obtain ⟨r, σ', τ', hr, x3, m3, rel2⟩ := c_again rel wb y (g := 0) wa
          refine ⟨r, σ', τ', hr, ?_, ?_, rel2⟩
          · rw [if_neg e] at I64
            unfold zX7_block_11 zX7_block_65 zX7_block_66; rw [if_pos (by decide), if_neg (by decide), x1, fv_bv_rv, I4, if_neg (by decide), fv_bi_ri, if_neg (by decide), I64, fv_bi_ri, if_pos (by decide), x3]
          · rw [m1, if_neg (by decide), if_neg e, m3]
    · obtain ⟨σ1, τ1, x1, e0, m1, rel⟩ := c_ini h s
      by_cases e : fv_ga τ1 23 0 = 0
      · obtain ⟨r, σ', τ', hr, x3, m3, rel2⟩ := c_again rel wb y (g := 0) wa
        refine ⟨r, σ', τ', hr, ?_, ?_, rel2⟩
        · unfold zX7_block_11 zX7_block_91 zX7_block_105; rw [if_pos (by decide), if_pos (by decide), if_neg (by decide), x1, fv_bv_rv, e0, if_pos e, x3]
        · rw [m1, if_pos e, m3]
      · obtain ⟨r, σ', τ', hr, x3, m3, rel2⟩ := c_again rel wb y (g := 1) wa
        refine ⟨r, σ', τ', hr, ?_, ?_, rel2⟩
        · unfold zX7_block_11 zX7_block_91 zX7_block_105; rw [if_pos (by decide), if_pos (by decide), if_neg (by decide), x1, fv_bv_rv, e0, if_neg e, x3]
        · rw [m1, if_neg e, m3]
    · obtain ⟨σ1, τ1, x1, e0, m1, rel⟩ := c_outi h s
      by_cases e : fv_ga τ1 23 0 = 0
      · obtain ⟨r, σ', τ', hr, x3, m3, rel2⟩ := c_again rel wb y (g := 0) wa
        refine ⟨r, σ', τ', hr, ?_, ?_, rel2⟩
        · unfold zX7_block_11 zX7_block_91 zX7_block_105; rw [if_pos (by decide), if_pos (by decide), if_pos (by decide), x1, fv_bv_rv, e0, if_pos e, x3]
        · rw [m1, if_pos e, m3]
      · obtain ⟨r, σ', τ', hr, x3, m3, rel2⟩ := c_again rel wb y (g := 1) wa
        refine ⟨r, σ', τ', hr, ?_, ?_, rel2⟩
        · unfold zX7_block_11 zX7_block_91 zX7_block_105; rw [if_pos (by decide), if_pos (by decide), if_pos (by decide), x1, fv_bv_rv, e0, if_neg e, x3]
        · rw [m1, if_neg e, m3]
  unfold zX7_block zX8_doBlock
  by_cases e : y &&& 1 = 0
  · rw [if_neg (not_not_intro e), if_neg (not_not_intro e)]; exact key 1
  · rw [if_pos e, if_pos e]; exact key (-1)
theorem m_237 (at_ : Int32) (τ : fv_S) {op y : Int32} (ho : fv_gi τ 61 = op) (hy : (op >>> (3 : Int32)) &&& 7 = y) : zX8_do237 at_ τ = zX8_do237_26 at_ y (y >>> (1 : Int32)) (y &&& 1) τ := by
  unfold zX8_do237
  rw [ho, hy]
  rcases p_bit1 y with e | e <;> rw [e]
  · rw [if_pos (by decide)]
  · rw [if_neg (by decide)]
/-- which octets stand behind 237, as the model says -/
def p_e7 (x y z : Int32) : Prop := (x = 2 ∧ (z = 0 ∨ z = 1 ∨ z = 2 ∨ z = 3)) ∨ (x ≠ 2 ∧ (z = 0 → y ≠ 6) ∧ (z = 1 → y ≠ 6) ∧ (z = 7 → y ≠ 6 ∧ y ≠ 7) ∧ (z = 6 → y = 0 ∨ y = 2 ∨ y = 3))
theorem c_237 {σ0 τ0 σ τ : fv_S} {p q : Int32} (h : pRel σ0 τ0 p q σ τ) {b y z bh at_ : Int32} (i0 : fv_gi τ0 60 = 0) (hop : fv_gi τ0 61 = b) (hy : (b >>> (3 : Int32)) &&& 7 = y) (hz : b &&& 7 = z) (ok : p_e7 (b >>> (6 : Int32)) y z)
    (wb : pw bh) (wa : pw at_) (hat : (bh - 2) &&& 65535 = at_) (ho : bh = fv_gi τ0 64 &&& 65535) (hq : q = if ¬ b >>> (6 : Int32) = 2 ∧ z = 3 then (bh + 2) &&& 65535 else bh) :
    ∃ r σ' τ', pw r ∧ zX7_extra b bh σ = fv_rv σ' ∧ zX8_do237_26 at_ y (y >>> (1 : Int32)) (y &&& 1) τ = fv_rv τ' ∧ pRel σ0 τ0 r r σ' τ' := by
  have l : pLk τ0 2 := Or.inl ⟨i0, rfl⟩
  have h61 : fv_gi τ 61 = b := by rw [g_k h 61 (by omega)]; exact hop
  have h64 := g_k h 64 (by omega)
  have y8 : p_y8 y := hy ▸ p_and7 _
  have z8 : p_y8 z := hz ▸ p_and7 _
  have q4 := p_half y8
  have hp := e_px h bh
  have hbo : bh &&& 65535 = fv_gi τ 64 &&& 65535 := by rw [h64, show bh &&& 65535 = bh from wb]; exact ho
  have pairE : ∀ {x : Int32}, (if x = 2 then (2 : Int32) else x) = x := by
    intro x; by_cases e : x = 2
    · rw [if_pos e, e]
    · rw [if_neg e]
  by_cases e6 : b >>> (6 : Int32) = 2
  · have hq' : q = bh := by rw [hq, if_neg (fun c => c.1 e6)]
    rw [hq'] at hp
    rcases ok with ⟨_, ok⟩ | ⟨c, _⟩
    · obtain ⟨r, σ', τ', hr, x1, m1, rel⟩ := c_block hp wb (y := y) ok wa
      refine ⟨r, σ', τ', hr, ?_, ?_, rel⟩
      · unfold zX7_extra; rw [if_neg (not_not_intro e6), hy, hz, hat, x1, fv_bv_rv]
      · unfold zX8_do237_26; rw [h61, if_neg (not_not_intro e6), hz, m1, fv_bv_rv]
    · exact absurd e6 c
  · rcases ok with ⟨c, _⟩ | ⟨_, o0, o1, o7, o6⟩
    · exact absurd c e6
    unfold zX7_extra zX8_do237_26
    rw [if_pos e6, h61, if_pos e6, hz, hy]
    rcases z8 with rfl | rfl | rfl | rfl | rfl | rfl | rfl | rfl
    · have hq' : q = bh := by rw [hq, if_neg (fun c => absurd c.2 (by decide))]
      rw [hq'] at hp
      obtain ⟨c1, c2, c3, c4⟩ := p_y8c y8 (o0 rfl)
      have h1 := g_r hp 1 (by decide) (by decide)
      have i := x_in hp h1.2
      have hF := g_f (e_r hp y c1 c2 i.2)
      refine ⟨bh, _, _, wb, ?_, ?_, e_f (e_r hp y c1 c2 i.2) (v := (p_sh (fv_ga τ 26 (fv_ga τ 23 1)) ||| p_pa (fv_ga τ 26 (fv_ga τ 23 1))) ||| (fv_ga (fv_sa τ 23 y (fv_ga τ 26 (fv_ga τ 23 1))) 23 6 &&& 1)) (pb_or (pb_or (pb_sh _) (pb_pa _)) (pb_and _ 1 rfl))⟩
      · rw [if_pos rfl, show fv_ga σ 36 1 = fv_ga τ 23 1 from h1.1, i.1, fv_bi_ri, if_pos c3, if_pos c3, x_shown i.2, fv_bi_ri, if_pos c3]
        rw [show ∀ (σ : fv_S) u, fv_ga (fv_sa σ 36 y u) 36 y = u from fun σ u => by rw [s_ga_sa, if_pos rfl, if_pos rfl], x_parity, fv_bi_ri, hF.1]
      · rw [if_pos rfl, if_pos (p_in256 h1.2), if_pos c4, m_signs, fv_bi_ri, m_parity, fv_bi_ri]
        congr 2; ac_rfl
    · have hq' : q = bh := by rw [hq, if_neg (fun c => absurd c.2 (by decide))]
      rw [hq'] at hp
      obtain ⟨c1, c2, c3, c4⟩ := p_y8c y8 (o1 rfl)
      have h1 := g_r hp 1 (by decide) (by decide)
      have h2 := g_r hp y c1 c2
      obtain ⟨σ', τ', x1, m1, rel, _⟩ := c_out hp (fv_ga τ 23 1) (fv_ga τ 23 y)
      refine ⟨bh, σ', τ', wb, ?_, ?_, rel⟩
      · rw [if_neg (by decide), if_pos rfl, if_pos c3, show fv_ga σ 36 1 = fv_ga τ 23 1 from h1.1, show fv_ga σ 36 y = fv_ga τ 23 y from h2.1, x1, fv_bv_rv]
      · rw [if_neg (by decide), if_pos rfl, if_pos c4, m1, fv_bv_rv]
    · have hq' : q = bh := by rw [hq, if_neg (fun c => absurd c.2 (by decide))]
      rw [hq'] at hp
      obtain ⟨v, hv, x1, m1⟩ := c_pair hp l q4
      rw [pairE] at x1
      obtain ⟨σ', τ', x2, m2, rel⟩ := c_sum16 hp v (y &&& 1) (p_bit1 y)
      refine ⟨bh, σ', τ', wb, ?_, ?_, rel⟩
      · rw [if_neg (by decide), if_neg (by decide), if_pos rfl, x1, fv_bi_ri]
        unfold zX7_extra_181
        rcases p_bit1 y with e | e <;> rw [e] at x2 ⊢
        · rw [if_pos (by decide), x2, fv_bv_rv]
        · rw [if_neg (by decide), x2, fv_bv_rv]
      · rw [if_neg (by decide), if_neg (by decide), if_pos rfl, m1, fv_bi_ri, m2, fv_bv_rv]
    · have hq' : q = (bh + 2) &&& 65535 := by rw [hq, if_pos ⟨e6, rfl⟩]
      have hp2 := e_px hp ((bh + 2) &&& 65535)
      rw [hq'] at hp2
      obtain ⟨w, hw, xw, mw⟩ := c_wide hp2 hbo
      rcases p_bit1 y with e | e
      · obtain ⟨v, hv, x1, m1⟩ := c_pair hp2 l q4
        rw [pairE] at x1
        obtain ⟨σ', τ1, τ', x2, m2, m3, rel, _⟩ := c_put2 hp2 w v
        refine ⟨_, σ', τ', pw_a (bh + 2), ?_, ?_, rel⟩
        · rw [if_neg (by decide), if_neg (by decide), if_neg (by decide), if_pos rfl, if_neg (not_not_intro e), xw, fv_bi_ri, x1, fv_bi_ri, x2, fv_bv_rv]
        · rw [e, if_neg (by decide), if_neg (by decide), if_neg (by decide), if_pos rfl, mw, fv_bi_ri, if_pos rfl, m1, fv_bi_ri, m2, fv_bv_rv, m3, fv_bv_rv]
      · obtain ⟨v, hv, x1, m1⟩ := c_wide hp2 (a := w) (a' := w) rfl
        obtain ⟨σ', τ', x2, m2, rel⟩ := c_setp hp2 l q4 v
        rw [pairE] at x2
        refine ⟨_, σ', τ', pw_a (bh + 2), ?_, ?_, rel⟩
        · rw [if_neg (by decide), if_neg (by decide), if_neg (by decide), if_pos rfl, e, if_pos (by decide), xw, fv_bi_ri, x1, fv_bi_ri, x2, fv_bv_rv]
        · rw [e, if_neg (by decide), if_neg (by decide), if_neg (by decide), if_pos rfl, mw, fv_bi_ri, if_neg (by decide), m1, fv_bi_ri, m2, fv_bv_rv]
    · have hq' : q = bh := by rw [hq, if_neg (fun c => absurd c.2 (by decide))]
      rw [hq'] at hp
      have hA := g_r hp 7 (by decide) (by decide)
      refine ⟨bh, _, _, wb, ?_, ?_, e_r (e_f hp (pb_tf 0 (fv_ga τ 23 7) 0)) 7 (v := ((0 - fv_ga τ 23 7) - 0) &&& 255) (by decide) (by decide) (pb_a255 _)⟩
      · rw [if_neg (by decide), if_neg (by decide), if_neg (by decide), if_neg (by decide), if_pos rfl, show fv_ga σ 36 7 = fv_ga τ 23 7 from hA.1, x_taken, fv_bi_ri]
      · rw [if_neg (by decide), if_neg (by decide), if_neg (by decide), if_neg (by decide), if_pos rfl, m_diff, fv_bi_ri]
    · obtain ⟨v, σ1, τ1, hv, x1, m1, rel, e1, e2⟩ := c_pop hp
      have gi := g_i rel
      refine ⟨v, _, _, hv, ?_, ?_, e_l1 (e_pm (e_px rel v) v) (show p_bit (fv_gi τ1 78) from gi.2.2.2.2.1.1)⟩
      · rw [if_neg (by decide), if_neg (by decide), if_neg (by decide), if_neg (by decide), if_neg (by decide), if_pos rfl, x1, fv_bi_ri, show fv_gi σ1 4362 = fv_gi τ1 78 from gi.2.2.2.2.1.2]
      · rw [if_neg (by decide), if_neg (by decide), if_neg (by decide), if_neg (by decide), if_neg (by decide), if_pos rfl, m1, fv_bi_ri]
    · have hq' : q = bh := by rw [hq, if_neg (fun c => absurd c.2 (by decide))]
      rw [hq'] at hp
      rcases o6 rfl with rfl | rfl | rfl
      · refine ⟨bh, _, _, wb, ?_, ?_, e_md hp (v := 0) (Or.inl rfl)⟩
        · rw [if_neg (by decide), if_neg (by decide), if_neg (by decide), if_neg (by decide), if_neg (by decide), if_neg (by decide), if_pos rfl, if_neg (by decide)]; rfl
        · rw [if_neg (by decide), if_neg (by decide), if_neg (by decide), if_neg (by decide), if_neg (by decide), if_neg (by decide), if_pos rfl, if_neg (by decide)]; rfl
      · refine ⟨bh, _, _, wb, ?_, ?_, e_md hp (v := 1) (Or.inr (Or.inl rfl))⟩
        · rw [if_neg (by decide), if_neg (by decide), if_neg (by decide), if_neg (by decide), if_neg (by decide), if_neg (by decide), if_pos rfl, if_pos (by decide)]; rfl
        · rw [if_neg (by decide), if_neg (by decide), if_neg (by decide), if_neg (by decide), if_neg (by decide), if_neg (by decide), if_pos rfl, if_pos (by decide)]; rfl
      · refine ⟨bh, _, _, wb, ?_, ?_, e_md hp (v := 2) (Or.inr (Or.inr rfl))⟩
        · rw [if_neg (by decide), if_neg (by decide), if_neg (by decide), if_neg (by decide), if_neg (by decide), if_neg (by decide), if_pos rfl, if_pos (by decide)]; rfl
        · rw [if_neg (by decide), if_neg (by decide), if_neg (by decide), if_neg (by decide), if_neg (by decide), if_neg (by decide), if_pos rfl, if_pos (by decide)]; rfl
    · have hq' : q = bh := by rw [hq, if_neg (fun c => absurd c.2 (by decide))]
      rw [hq'] at hp
      have y6 : y = 0 ∨ y = 1 ∨ y = 2 ∨ y = 3 ∨ y = 4 ∨ y = 5 := by
        have := o7 rfl
        rcases y8 with e | e | e | e | e | e | e | e
        · exact Or.inl e
        · exact Or.inr (Or.inl e)
        · exact Or.inr (Or.inr (Or.inl e))
        · exact Or.inr (Or.inr (Or.inr (Or.inl e)))
        · exact Or.inr (Or.inr (Or.inr (Or.inr (Or.inl e))))
        · exact Or.inr (Or.inr (Or.inr (Or.inr (Or.inr e))))
        · exact absurd e this.1
        · exact absurd e this.2
      obtain ⟨σ', τ', x1, m1, rel⟩ := c_half hp y6
      refine ⟨bh, σ', τ', wb, ?_, ?_, rel⟩
      · rw [if_neg (by decide), if_neg (by decide), if_neg (by decide), if_neg (by decide), if_neg (by decide), if_neg (by decide), if_neg (by decide), x1, fv_bv_rv]
      · rw [if_neg (by decide), if_neg (by decide), if_neg (by decide), if_neg (by decide), if_neg (by decide), if_neg (by decide), if_neg (by decide), m1, fv_bv_rv]
