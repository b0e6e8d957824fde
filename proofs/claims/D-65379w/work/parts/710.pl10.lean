set_option maxRecDepth 100000
set_option maxHeartbeats 4000000
/-! The plain law: blocks, all that stands behind 237. -/
theorem p_s24 (s : Int32) : ((s &&& 2) <<< (4 : Int32)) &&& 4 = 0 ∧ pb ((s &&& 2) <<< (4 : Int32)) := by
  obtain ⟨n, hn, e⟩ := p_andn s 2 (by decide)
  rw [show (2 : Int32) = Int32.ofNat 2 from rfl, e]
  have : n = 0 ∨ n = 1 ∨ n = 2 := by omega
  rcases this with rfl | rfl | rfl <;> exact ⟨by decide, by unfold pb; decide⟩
theorem p_h16 {f : Int32} (h : pb f) : (f >>> (4 : Int32)) &&& 1 = if f &&& 16 = 0 then 0 else 1 := by
  have : ∀ n, n < 256 → ((Int32.ofNat n) >>> (4 : Int32)) &&& (1 : Int32) = if (Int32.ofNat n) &&& (16 : Int32) = 0 then 0 else 1 := by decide +kernel
  exact p_all8 (P := fun f => (f >>> (4 : Int32)) &&& 1 = if f &&& 16 = 0 then 0 else 1) this h
theorem p_v7 {v : Int32} (h : pb v) : (v >>> (7 : Int32)) <<< (1 : Int32) = (v >>> (6 : Int32)) &&& 2 := by
  have : ∀ n, n < 256 → ((Int32.ofNat n) >>> (7 : Int32)) <<< (1 : Int32) = ((Int32.ofNat n) >>> (6 : Int32)) &&& (2 : Int32) := by decide +kernel
  exact p_all8 (P := fun v => (v >>> (7 : Int32)) <<< (1 : Int32) = (v >>> (6 : Int32)) &&& 2) this h
theorem c_again {σ0 τ0 σ τ : fv_S} {bh : Int32} (h : pRel σ0 τ0 bh bh σ τ) (wb : pw bh) (y : Int32) {at_ g : Int32} (wa : pw at_) : ∃ r σ' τ', pw r ∧ zX7_block_107 y at_ g σ = fv_rv σ' ∧ zX8_doBlock_504 y at_ g τ = fv_rv τ' ∧ pRel σ0 τ0 r r σ' τ' := by
  unfold zX7_block_107 zX8_doBlock_504
  by_cases e : y ≤ 5
  · rw [if_pos e, if_pos e]; exact ⟨bh, σ, τ, wb, rfl, rfl, h⟩
  · rw [if_neg e, if_neg e]
    by_cases e1 : g = 0
    · rw [if_pos e1, if_pos e1]; exact ⟨bh, σ, τ, wb, rfl, rfl, h⟩
    · rw [if_neg e1, if_neg e1]; exact ⟨at_, _, _, wa, rfl, rfl, e_pm (e_px h at_) at_⟩
theorem c_cnt {σ0 τ0 σ τ : fv_S} {p q : Int32} (h : pRel σ0 τ0 p q σ τ) {v : Int32} (hv : pb v) (k : Int32) : ∃ f, pb f ∧ zX7_counted v k σ = fv_rv (fv_sa σ 36 8 f) ∧ zX8_portFlags v k τ = fv_rv (fv_sa τ 23 6 f) := by
  have h0 := g_r h 0 (by decide) (by decide)
  have key : ∀ c, pb c → ∃ f, pb f ∧ zX7_counted_35 k 8 (p_sh (fv_ga τ 23 0) ||| ((v >>> (7 : Int32)) <<< (1 : Int32))) c σ = fv_rv (fv_sa σ 36 8 f) ∧ zX8_portFlags_36 k 6 (p_sh (fv_ga τ 23 0) ||| ((v >>> (6 : Int32)) &&& 2)) c τ = fv_rv (fv_sa τ 23 6 f) := by
    intro c hc
    refine ⟨((p_sh (fv_ga τ 23 0) ||| ((v >>> (6 : Int32)) &&& 2)) ||| c) ||| p_pa ((k &&& 7) ^^^ fv_ga τ 23 0), pb_or (pb_or (pb_or (pb_sh _) (pb_and _ 2 rfl)) hc) (pb_pa _), ?_, ?_⟩
    · unfold zX7_counted_35; rw [x_parity, fv_bi_ri, if_pos (by decide), h0.1, p_v7 hv]
    · unfold zX8_portFlags_36; rw [m_parity, fv_bi_ri, if_pos (by decide)]
  unfold zX7_counted zX8_portFlags
  rw [h0.1, x_shown h0.2, fv_bi_ri, m_signs, fv_bi_ri]
  by_cases e : k ≤ 255
  · rw [if_pos e, if_pos e]; exact key 0 rfl
  · rw [if_neg e, if_neg e]; exact key 17 rfl
theorem c_ldi {σ0 τ0 σ τ : fv_S} {p q : Int32} (h : pRel σ0 τ0 p q σ τ) (s : Int32) : ∃ σ' τ' g, zX7_copy s σ = fv_rv σ' ∧ zX7_is 4 σ' = fv_ri g σ' ∧
    (∀ y at_, zX8_doBlock_11 y 0 at_ s τ = zX8_doBlock_504 y at_ g τ') ∧ pRel σ0 τ0 p q σ' τ' := by
  obtain ⟨v, hv, x1, m1⟩ := c_get h (a := p_hl τ) (a' := p_hl τ) rfl
  have r1 := e_m h (p_de τ &&& 65535) v
  have r2 := e_hl r1 (p_hl τ + s)
  have r3 := e_de r2 (p_de (p_uM (fv_sa τ 13 (p_de τ &&& 65535) (v &&& 255)) 4 5 (p_hl τ + s)) + s)
  have r4 := e_bc r3 (p_bc (p_uM (p_uM (fv_sa τ 13 (p_de τ &&& 65535) (v &&& 255)) 4 5 (p_hl τ + s)) 2 3 (p_de (p_uM (fv_sa τ 13 (p_de τ &&& 65535) (v &&& 255)) 4 5 (p_hl τ + s)) + s)) - 1)
  generalize hσ : p_uX (p_uX (p_uX (fv_sa σ 35 (p_de τ &&& 65535) (p_se v)) 4 5 (p_hl τ + s)) 2 3 _) 0 1 _ = σ4 at r4
  generalize hτ : p_uM (p_uM (p_uM (fv_sa τ 13 (p_de τ &&& 65535) (v &&& 255)) 4 5 (p_hl τ + s)) 2 3 _) 0 1 _ = τ4 at r4
  have hA := g_r r4 7 (by decide) (by decide)
  have hF := g_f r4
  have fin : ∀ c, pb c → c &&& 4 = c → ∃ f, pb f ∧ f &&& 4 = c ∧ zX7_copy_94 (v + fv_ga τ4 23 7) 8 (fv_ga τ4 23 6 &&& 193) c σ4 = fv_rv (fv_sa σ4 36 8 f) ∧
      (∀ y at_, zX8_doBlock_148 y at_ (v + fv_ga τ4 23 7) 6 (fv_ga τ4 23 6 &&& 193) c τ4 = if p_bc τ4 = 0 then zX8_doBlock_504 y at_ 0 (fv_sa τ4 23 6 f) else zX8_doBlock_504 y at_ 1 (fv_sa τ4 23 6 f)) := by
    intro c hc hc4
    refine ⟨(((fv_ga τ4 23 6 &&& 193) ||| c) ||| ((v + fv_ga τ4 23 7) &&& 8)) ||| (((v + fv_ga τ4 23 7) &&& 2) <<< (4 : Int32)), pb_or (pb_or (pb_or (pb_and _ 193 rfl) hc) (pb_and _ 8 rfl)) (p_s24 _).2, ?_, ?_, fun y at_ => ?_⟩
    · rw [p_oa, p_oa, p_oa, (p_s24 _).1, p_aa, p_aa, hc4, show (193 : Int32) &&& 4 = 0 from rfl, show (8 : Int32) &&& 4 = 0 from rfl, Int32.and_zero, Int32.and_zero, Int32.or_zero, Int32.or_zero, Int32.zero_or]
    · unfold zX7_copy_94; rw [if_pos (by decide)]
    · unfold zX8_doBlock_148 zX8_doBlock_176; rw [if_pos (by decide), m_bc, fv_bi_ri]; rfl
  have xall : ∀ c, p_bc τ4 = 0 ∧ c = 0 ∨ p_bc τ4 ≠ 0 ∧ c = 4 → zX7_copy s σ = zX7_copy_94 (v + fv_ga τ4 23 7) 8 (fv_ga τ4 23 6 &&& 193) c σ4 := by
    intro c hc
    unfold zX7_copy
    rw [(x_hl h).1, fv_bi_ri, x1, fv_bi_ri, (x_de h).1, fv_bi_ri, x_put, fv_bv_rv, (x_hl r1).1, fv_bi_ri, x_shl, fv_bv_rv]
    rw [show p_hl (fv_sa τ 13 (p_de τ &&& 65535) (v &&& 255)) = p_hl τ from rfl, (x_de r2).1, fv_bi_ri, x_sde, fv_bv_rv, (x_bc r3).1, fv_bi_ri, x_sbc, fv_bv_rv, hσ, (x_bc r4).1, fv_bi_ri, hA.1, hF.1]
    rcases hc with ⟨e, rfl⟩ | ⟨e, rfl⟩
    · rw [if_pos e]
    · rw [if_neg e]
  have mall : ∀ c y at_, p_bc τ4 = 0 ∧ c = 0 ∨ p_bc τ4 ≠ 0 ∧ c = 4 → zX8_doBlock_11 y 0 at_ s τ = zX8_doBlock_148 y at_ (v + fv_ga τ4 23 7) 6 (fv_ga τ4 23 6 &&& 193) c τ4 := by
    intro c y at_ hc
    unfold zX8_doBlock_11
    rw [m_hl, fv_bi_ri, if_pos rfl, m1, fv_bi_ri, m_de, fv_bi_ri, m_store, fv_bv_rv, m_shl, fv_bv_rv, m_de, fv_bi_ri, m_sde, fv_bv_rv, m_bc, fv_bi_ri, m_sbc, fv_bv_rv, hτ, m_bc, fv_bi_ri]
    rcases hc with ⟨e, rfl⟩ | ⟨e, rfl⟩
    · rw [if_pos e]
    · rw [if_neg e]
  by_cases e : p_bc τ4 = 0
  · obtain ⟨f, hf, f4, x2, m2⟩ := fin 0 rfl rfl
    refine ⟨_, _, 0, (xall 0 (Or.inl ⟨e, rfl⟩)).trans x2, ?_, fun y at_ => ?_, e_f r4 hf⟩
    · rw [x_is (e_f r4 hf), show fv_ga (fv_sa τ4 23 6 f) 23 6 = f from rfl, f4, if_pos rfl]
    · rw [mall 0 y at_ (Or.inl ⟨e, rfl⟩), m2, if_pos e]
  · obtain ⟨f, hf, f4, x2, m2⟩ := fin 4 rfl rfl
    refine ⟨_, _, 1, (xall 4 (Or.inr ⟨e, rfl⟩)).trans x2, ?_, fun y at_ => ?_, e_f r4 hf⟩
    · rw [x_is (e_f r4 hf), show fv_ga (fv_sa τ4 23 6 f) 23 6 = f from rfl, f4, if_neg (by decide)]
    · rw [mall 4 y at_ (Or.inr ⟨e, rfl⟩), m2, if_neg e]
theorem c_cpi {σ0 τ0 σ τ : fv_S} {p q : Int32} (h : pRel σ0 τ0 p q σ τ) (s : Int32) : ∃ σ' τ' c, zX7_search s σ = fv_rv σ' ∧ (c = 0 ∨ c = 4) ∧ fv_ga τ' 23 6 &&& 4 = c ∧
    (∀ y at_, zX8_doBlock_11 y 1 at_ s τ = if c = 0 then zX8_doBlock_504 y at_ 0 τ' else if fv_ga τ' 23 6 &&& 64 = 0 then zX8_doBlock_504 y at_ 1 τ' else zX8_doBlock_504 y at_ 0 τ') ∧ pRel σ0 τ0 p q σ' τ' := by
  obtain ⟨v, hv, x1, m1⟩ := c_get h (a := p_hl τ) (a' := p_hl τ) rfl
  have hA0 := g_r h 7 (by decide) (by decide)
  have hF0 := g_f h
  have r1 := e_f h (pb_tf (fv_ga τ 23 7) v 0)
  have r2 := e_hl r1 (p_hl τ + s)
  have r4 := e_bc r2 (p_bc (p_uM (fv_sa τ 23 6 (p_tf (fv_ga τ 23 7) v 0)) 4 5 (p_hl τ + s)) - 1)
  generalize hσ : p_uX (p_uX (fv_sa σ 36 8 (p_tf (fv_ga τ 23 7) v 0)) 4 5 (p_hl τ + s)) 0 1 _ = σ4 at r4
  generalize hτ : p_uM (p_uM (fv_sa τ 23 6 (p_tf (fv_ga τ 23 7) v 0)) 4 5 (p_hl τ + s)) 0 1 _ = τ4 at r4
  have hF := g_f r4
  have b1 := p_bit1 (fv_ga τ 23 6)
  have b14 : (fv_ga τ 23 6 &&& 1) &&& 4 = 0 := by rw [p_aa]; exact Int32.and_zero
  have fin : ∀ c t, pb c → c &&& 4 = c → ∃ f, pb f ∧ f &&& 4 = c ∧ zX7_search_108 (fv_ga τ 23 6 &&& 1) t 8 ((fv_ga τ4 23 6 &&& 208) ||| 2) c σ4 = fv_rv (fv_sa σ4 36 8 f) ∧
      (∀ y at_, zX8_doBlock_289 y at_ t 6 (((fv_ga τ4 23 6 &&& 208) ||| 2) ||| (fv_ga τ 23 6 &&& 1)) c τ4 = if p_bc τ4 = 0 then zX8_doBlock_504 y at_ 0 (fv_sa τ4 23 6 f) else if f &&& 64 = 0 then zX8_doBlock_504 y at_ 1 (fv_sa τ4 23 6 f) else zX8_doBlock_504 y at_ 0 (fv_sa τ4 23 6 f)) := by
    intro c t hc hc4
    refine ⟨((((fv_ga τ4 23 6 &&& 208) ||| 2) ||| (fv_ga τ 23 6 &&& 1) ||| c) ||| (t &&& 8)) ||| ((t &&& 2) <<< (4 : Int32)), pb_or (pb_or (pb_or (pb_or (pb_or (pb_and _ 208 rfl) (show pb 2 from rfl)) (pb_bit b1)) hc) (pb_and _ 8 rfl)) (p_s24 _).2, ?_, ?_, fun y at_ => ?_⟩
    · rw [p_oa, p_oa, p_oa, p_oa, p_oa, (p_s24 _).1, p_aa, p_aa t, hc4, b14, show (208 : Int32) &&& 4 = 0 from rfl, show (2 : Int32) &&& 4 = 0 from rfl, show (8 : Int32) &&& 4 = 0 from rfl, Int32.and_zero, Int32.and_zero, Int32.or_zero, Int32.or_zero, Int32.or_zero, Int32.or_zero, Int32.zero_or]
    · unfold zX7_search_108; rw [if_pos (by decide)]
      congr 2; ac_rfl
    · unfold zX8_doBlock_289 zX8_doBlock_329 zX8_doBlock_330; rw [if_pos (by decide), m_bc, fv_bi_ri]
      by_cases e : p_bc τ4 = 0
      · rw [if_pos e]; exact if_pos e
      · rw [if_neg e]
        refine (if_neg e).trans ?_
        rw [show ∀ u, fv_ga (fv_sa τ4 23 6 u) 23 6 = u from fun _ => rfl]
        exact ite_not ..
  have key : (fv_ga τ4 23 6 >>> (4 : Int32)) &&& 1 = if fv_ga τ4 23 6 &&& 16 = 0 then 0 else 1 := p_h16 hF.2
  have xall : ∀ c, p_bc τ4 = 0 ∧ c = 0 ∨ p_bc τ4 ≠ 0 ∧ c = 4 → zX7_search s σ = zX7_search_108 (fv_ga τ 23 6 &&& 1) ((((fv_ga τ 23 7 - v) - 0) &&& 255) - ((fv_ga τ4 23 6 >>> (4 : Int32)) &&& 1)) 8 ((fv_ga τ4 23 6 &&& 208) ||| 2) c σ4 := by
    intro c hc
    unfold zX7_search zX7_search_73
    rw [(x_hl h).1, fv_bi_ri, x1, fv_bi_ri, hA0.1, x_taken, fv_bi_ri, (x_hl r1).1, fv_bi_ri, x_shl, fv_bv_rv]
    rw [show p_hl (fv_sa τ 23 6 (p_tf (fv_ga τ 23 7) v 0)) = p_hl τ from rfl, (x_bc r2).1, fv_bi_ri, x_sbc, fv_bv_rv, hσ, x_is r4, fv_bi_ri, key, hF0.1, (x_bc r4).1, fv_bi_ri, fv_bi_ri, hF.1]
    by_cases e2 : fv_ga τ4 23 6 &&& 16 = 0
    · rw [if_pos e2, if_pos rfl]
      rcases hc with ⟨e, rfl⟩ | ⟨e, rfl⟩
      · rw [if_pos e]
      · rw [if_neg e]
    · rw [if_neg e2, if_neg (by decide)]
      rcases hc with ⟨e, rfl⟩ | ⟨e, rfl⟩
      · rw [if_pos e]
      · rw [if_neg e]
  have mall : ∀ c y at_, p_bc τ4 = 0 ∧ c = 0 ∨ p_bc τ4 ≠ 0 ∧ c = 4 → zX8_doBlock_11 y 1 at_ s τ = zX8_doBlock_289 y at_ ((((fv_ga τ 23 7 - v) - 0) &&& 255) - ((fv_ga τ4 23 6 >>> (4 : Int32)) &&& 1)) 6 (((fv_ga τ4 23 6 &&& 208) ||| 2) ||| (fv_ga τ 23 6 &&& 1)) c τ4 := by
    intro c y at_ hc
    unfold zX8_doBlock_11
    rw [m_hl, fv_bi_ri, if_neg (by decide), if_pos rfl, m1, fv_bi_ri, m_diff, fv_bi_ri, m_shl, fv_bv_rv, m_bc, fv_bi_ri, m_sbc, fv_bv_rv, hτ, m_bc, fv_bi_ri]
    rcases hc with ⟨e, rfl⟩ | ⟨e, rfl⟩
    · rw [if_pos e]
    · rw [if_neg e]
  by_cases e : p_bc τ4 = 0
  · obtain ⟨f, hf, f4, x2, m2⟩ := fin 0 ((((fv_ga τ 23 7 - v) - 0) &&& 255) - ((fv_ga τ4 23 6 >>> (4 : Int32)) &&& 1)) rfl rfl
    refine ⟨_, fv_sa τ4 23 6 f, 0, (xall 0 (Or.inl ⟨e, rfl⟩)).trans x2, Or.inl rfl, f4, fun y at_ => ?_, e_f r4 hf⟩
    rw [mall 0 y at_ (Or.inl ⟨e, rfl⟩), m2, if_pos e, if_pos rfl]
  · obtain ⟨f, hf, f4, x2, m2⟩ := fin 4 ((((fv_ga τ 23 7 - v) - 0) &&& 255) - ((fv_ga τ4 23 6 >>> (4 : Int32)) &&& 1)) rfl rfl
    refine ⟨_, fv_sa τ4 23 6 f, 4, (xall 4 (Or.inr ⟨e, rfl⟩)).trans x2, Or.inr rfl, f4, fun y at_ => ?_, e_f r4 hf⟩
    rw [mall 4 y at_ (Or.inr ⟨e, rfl⟩), m2, if_neg e]
    exact (if_neg (show ¬ (4 : Int32) = 0 by decide)).symm
