set_option maxRecDepth 100000
set_option maxHeartbeats 4000000
/-! The plain law: the machine's reckoning: flags, sums, what is moved. -/
def p_sh (v : Int32) : Int32 := (v &&& 168) ||| (if v = 0 then 64 else 0)
def p_pa (v : Int32) : Int32 := if ((((v ^^^ (v >>> (4 : Int32))) ^^^ ((v ^^^ (v >>> (4 : Int32))) >>> (2 : Int32))) ^^^ (((v ^^^ (v >>> (4 : Int32))) ^^^ ((v ^^^ (v >>> (4 : Int32))) >>> (2 : Int32))) >>> (1 : Int32))) &&& (1 : Int32)) = 0 then 4 else 0
theorem pb_sh (v : Int32) : pb (p_sh v) := by
  unfold p_sh; refine pb_or (pb_and _ _ rfl) ?_; split <;> rfl
theorem pb_pa (v : Int32) : pb (p_pa v) := by
  unfold p_pa; split <;> rfl
theorem x_shown {v : Int32} (h : pb v) (σ : fv_S) : zX7_shown v σ = fv_ri (p_sh v) σ := by
  unfold zX7_shown p_sh; rw [show v &&& 255 = v from h]
  by_cases e : v = 0
  · simp only [e, not_true, if_false, if_true]
  · simp only [e, not_false_eq_true, if_false, if_true]
theorem m_signs (v : Int32) (σ : fv_S) : zX8_signs v σ = fv_ri (p_sh v) σ := by
  unfold zX8_signs p_sh
  by_cases e : v = 0
  · simp only [e, not_true, if_false, if_true]
  · simp only [e, not_false_eq_true, if_false, if_true]
theorem x_parity (v : Int32) (σ : fv_S) : zX7_parity v σ = fv_ri (p_pa v) σ := by
  unfold zX7_parity p_pa
  by_cases e : ((((v ^^^ (v >>> (4 : Int32))) ^^^ ((v ^^^ (v >>> (4 : Int32))) >>> (2 : Int32))) ^^^ (((v ^^^ (v >>> (4 : Int32))) ^^^ ((v ^^^ (v >>> (4 : Int32))) >>> (2 : Int32))) >>> (1 : Int32))) &&& (1 : Int32)) = 0
  · rw [if_neg (not_not_intro e), if_pos e]
  · rw [if_pos e, if_neg e]
theorem m_parity (v : Int32) (σ : fv_S) : zX8_parity v σ = fv_ri (p_pa v) σ := by
  unfold zX8_parity p_pa
  by_cases e : ((((v ^^^ (v >>> (4 : Int32))) ^^^ ((v ^^^ (v >>> (4 : Int32))) >>> (2 : Int32))) ^^^ (((v ^^^ (v >>> (4 : Int32))) ^^^ ((v ^^^ (v >>> (4 : Int32))) >>> (2 : Int32))) >>> (1 : Int32))) &&& (1 : Int32)) = 0
  · rw [if_neg (not_not_intro e), if_pos e]
  · rw [if_pos e, if_neg e]
theorem p_b16 (x y : Int32) : (x ^^^ (y &&& 255)) &&& 16 = (x ^^^ y) &&& 16 := by
  rw [p_xa, p_xa, p_aa]; rfl
theorem p_b128 (x a y : Int32) : (x &&& (a ^^^ (y &&& 255))) &&& 128 = (x &&& (a ^^^ y)) &&& 128 := by
  rw [p_aa, p_aa, p_xa, p_xa, p_aa]; rfl
theorem p_ca : ∀ n, n < 512 → ((Int32.ofNat n) >>> (8 : Int32)) &&& (1 : Int32) = (Int32.ofNat n) >>> (8 : Int32) ∧ ((Int32.ofNat n) >>> (8 : Int32)) &&& (255 : Int32) = (Int32.ofNat n) >>> (8 : Int32) := by decide +kernel
theorem p_carry {a b c : Int32} (ha : pb a) (hb : pb b) (hc : p_bit c) : (((a + b) + c) >>> (8 : Int32)) &&& (1 : Int32) = ((a + b) + c) >>> (8 : Int32) ∧ pb (((a + b) + c) >>> (8 : Int32)) := by
  obtain ⟨n, hn, rfl⟩ := pb_n ha
  obtain ⟨m, hm, rfl⟩ := pb_n hb
  have : ∃ k, k < 2 ∧ c = Int32.ofNat k := by rcases hc with rfl | rfl; exact ⟨0, by omega, rfl⟩; exact ⟨1, by omega, rfl⟩
  obtain ⟨k, hk, rfl⟩ := this
  rw [← Int32.ofNat_add, ← Int32.ofNat_add]
  exact p_ca _ (by omega)
def p_af (a b c : Int32) : Int32 := ((p_sh (((a + b) + c) &&& 255) ||| (((a ^^^ b) ^^^ (((a + b) + c) &&& 255)) &&& 16)) ||| ((((a ^^^ (b ^^^ ((-1) : Int32))) &&& (a ^^^ (((a + b) + c) &&& 255))) &&& 128) >>> (5 : Int32))) ||| (((a + b) + c) >>> (8 : Int32))
def p_tf (a b c : Int32) : Int32 := (((p_sh (((a - b) - c) &&& 255) ||| (((a ^^^ b) ^^^ (((a - b) - c) &&& 255)) &&& 16)) ||| ((((a ^^^ b) &&& (a ^^^ (((a - b) - c) &&& 255))) &&& 128) >>> (5 : Int32))) ||| 2) ||| ((((a - b) - c) >>> (8 : Int32)) &&& 1)
theorem pb_af {a b c : Int32} (ha : pb a) (hb : pb b) (hc : p_bit c) : pb (p_af a b c) :=
  pb_or (pb_or (pb_or (pb_sh _) (pb_and _ 16 rfl)) (pb_shr (pb_and _ 128 rfl)).2.2.1) (p_carry ha hb hc).2
theorem pb_tf (a b c : Int32) : pb (p_tf a b c) :=
  pb_or (pb_or (pb_or (pb_or (pb_sh _) (pb_and _ 16 rfl)) (pb_shr (pb_and _ 128 rfl)).2.2.1) rfl) (pb_and _ 1 rfl)
theorem x_added {a b c : Int32} (ha : pb a) (hb : pb b) (hc : p_bit c) (σ : fv_S) : zX7_added a b c σ = fv_ri (((a + b) + c) &&& 255) (fv_sa σ 36 8 (p_af a b c)) := by
  unfold zX7_added p_af
  rw [x_shown (pb_a255 _), fv_bi_ri, (p_carry ha hb hc).1, p_b16, p_b128]
theorem m_sum (a b c : Int32) (σ : fv_S) : zX8_sum a b c σ = fv_ri (((a + b) + c) &&& 255) (fv_sa σ 23 6 (p_af a b c)) := by
  unfold zX8_sum p_af
  rw [m_signs, fv_bi_ri]
theorem x_taken (a b c : Int32) (σ : fv_S) : zX7_taken a b c σ = fv_ri (((a - b) - c) &&& 255) (fv_sa σ 36 8 (p_tf a b c)) := by
  unfold zX7_taken p_tf
  rw [x_shown (pb_a255 _), fv_bi_ri, p_b16, p_b128]
theorem m_diff (a b c : Int32) (σ : fv_S) : zX8_difference a b c σ = fv_ri (((a - b) - c) &&& 255) (fv_sa σ 23 6 (p_tf a b c)) := by
  unfold zX8_difference p_tf
  rw [m_signs, fv_bi_ri]
theorem p_m2 {f : Int32} (h : pb f) : f &&& ((-2) : Int32) = f &&& 254 := by
  rw [← show f &&& 255 = f from h, p_aa, p_aa]; rfl
theorem p_m41 {f : Int32} (h : pb f) : pb (f &&& ((-41) : Int32)) := pb_andl _ _ h
theorem p_bitb {c : Int32} (h : p_bit c) : pb c := pb_bit h
theorem c_step {σ0 τ0 σ τ : fv_S} {p q : Int32} (h : pRel σ0 τ0 p q σ τ) {v : Int32} (hv : pb v) (u : Int32) : ∃ w f g, pb w ∧ pb f ∧ pb g ∧ zX7_stepped v u σ = fv_ri w (fv_sa (fv_sa σ 36 8 f) 36 8 g) ∧ zX8_stepUp v (if u = 0 then 1 else 0) τ = fv_ri w (fv_sa (fv_sa τ 23 6 f) 23 6 g) := by
  have hF := g_f h
  have b1 : pb (fv_ga τ 23 6 &&& 1) := pb_and _ _ rfl
  by_cases e : u = 0
  · refine ⟨((v - 1) - 0) &&& 255, p_tf v 1 0, (p_tf v 1 0 &&& 254) ||| (fv_ga τ 23 6 &&& 1), pb_a255 _, pb_tf _ _ _, pb_or (pb_and _ _ rfl) b1, ?_, ?_⟩
    · unfold zX7_stepped zX7_stepped_31
      rw [if_pos e, x_taken, fv_bi_ri, hF.1, show fv_ga (fv_sa σ 36 8 (p_tf v 1 0)) 36 8 = p_tf v 1 0 from rfl, p_m2 (pb_tf _ _ _)]
    · unfold zX8_stepUp zX8_stepUp_31
      rw [if_pos e, if_neg (by decide), m_diff, fv_bi_ri, show fv_ga (fv_sa τ 23 6 (p_tf v 1 0)) 23 6 = p_tf v 1 0 from rfl]
  · have b0 := pb_af hv (show pb 1 from rfl) (Or.inl rfl : p_bit 0)
    refine ⟨((v + 1) + 0) &&& 255, p_af v 1 0, (p_af v 1 0 &&& 254) ||| (fv_ga τ 23 6 &&& 1), pb_a255 _, b0, pb_or (pb_and _ _ rfl) b1, ?_, ?_⟩
    · unfold zX7_stepped zX7_stepped_31
      rw [if_neg e, x_added hv (show pb 1 from rfl) (Or.inl rfl), fv_bi_ri, hF.1, show fv_ga (fv_sa σ 36 8 (p_af v 1 0)) 36 8 = p_af v 1 0 from rfl, p_m2 b0]
    · unfold zX8_stepUp zX8_stepUp_31
      rw [if_neg e, if_pos rfl, m_sum, fv_bi_ri, show fv_ga (fv_sa τ 23 6 (p_af v 1 0)) 23 6 = p_af v 1 0 from rfl]
/-- y as one of eight -/
def p_y8 (y : Int32) : Prop := y = 0 ∨ y = 1 ∨ y = 2 ∨ y = 3 ∨ y = 4 ∨ y = 5 ∨ y = 6 ∨ y = 7
theorem p_and7 (v : Int32) : p_y8 (v &&& 7) := by
  obtain ⟨n, hn, e⟩ := p_andn v 7 (by decide)
  rw [show (7 : Int32) = Int32.ofNat 7 from rfl, e]
  have : n = 0 ∨ n = 1 ∨ n = 2 ∨ n = 3 ∨ n = 4 ∨ n = 5 ∨ n = 6 ∨ n = 7 := by omega
  unfold p_y8
  rcases this with rfl | rfl | rfl | rfl | rfl | rfl | rfl | rfl <;> simp <;> decide
theorem p_7c : (7 : Int32).toNatClampNeg < 8 ∧ (7 : Int32).toNatClampNeg ≠ 6 := by decide
theorem c_arith {σ0 τ0 σ τ : fv_S} {p q : Int32} (h : pRel σ0 τ0 p q σ τ) {y v : Int32} (hy : p_y8 y) (hv : pb v) : ∃ σ' τ', zX7_arithmetic y v σ = fv_rv σ' ∧ zX8_reckon y v τ = fv_rv τ' ∧ pRel σ0 τ0 p q σ' τ' := by
  have hF := g_f h
  have hA := g_r h 7 (by decide) (by decide)
  have b1 : p_bit (fv_ga τ 23 6 &&& 1) := p_bit1 _
  have lg : ∀ w k, pb w → pb k → zX7_logic w k σ = fv_rv (fv_sa (fv_sa σ 36 7 w) 36 8 ((p_sh w ||| k) ||| p_pa w)) := by
    intro w k hw hk
    unfold zX7_logic
    rw [x_shown hw, fv_bi_ri, x_parity, fv_bi_ri]
  rcases hy with rfl | rfl | rfl | rfl | rfl | rfl | rfl | rfl
  · refine ⟨_, _, ?_, ?_, e_r (e_f h (pb_af hA.2 hv (Or.inl rfl))) 7 (v := ((fv_ga τ 23 7 + v) + 0) &&& 255) (by decide) (by decide) (pb_a255 _)⟩
    · unfold zX7_arithmetic; rw [if_pos rfl, hA.1, x_added hA.2 hv (Or.inl rfl), fv_bi_ri]
    · unfold zX8_reckon; rw [if_pos rfl, m_sum, fv_bi_ri]
  · refine ⟨_, _, ?_, ?_, e_r (e_f h (pb_af hA.2 hv b1)) 7 (v := ((fv_ga τ 23 7 + v) + (fv_ga τ 23 6 &&& 1)) &&& 255) (by decide) (by decide) (pb_a255 _)⟩
    · unfold zX7_arithmetic; rw [if_neg (by decide), if_pos rfl, hA.1, hF.1, x_added hA.2 hv b1, fv_bi_ri]
    · unfold zX8_reckon; rw [if_neg (by decide), if_pos rfl, m_sum, fv_bi_ri]
  · refine ⟨_, _, ?_, ?_, e_r (e_f h (pb_tf (fv_ga τ 23 7) v 0)) 7 (v := ((fv_ga τ 23 7 - v) - 0) &&& 255) (by decide) (by decide) (pb_a255 _)⟩
    · unfold zX7_arithmetic; rw [if_neg (by decide), if_neg (by decide), if_pos rfl, hA.1, x_taken, fv_bi_ri]
    · unfold zX8_reckon; rw [if_neg (by decide), if_neg (by decide), if_pos rfl, m_diff, fv_bi_ri]
  · refine ⟨_, _, ?_, ?_, e_r (e_f h (pb_tf (fv_ga τ 23 7) v (fv_ga τ 23 6 &&& 1))) 7 (v := ((fv_ga τ 23 7 - v) - (fv_ga τ 23 6 &&& 1)) &&& 255) (by decide) (by decide) (pb_a255 _)⟩
    · unfold zX7_arithmetic; rw [if_neg (by decide), if_neg (by decide), if_neg (by decide), if_pos rfl, hA.1, hF.1, x_taken, fv_bi_ri]
    · unfold zX8_reckon; rw [if_neg (by decide), if_neg (by decide), if_neg (by decide), if_pos rfl, m_diff, fv_bi_ri]
  · have bw : pb (fv_ga τ 23 7 &&& v) := pb_and _ _ hv
    refine ⟨_, _, ?_, ?_, e_f (e_r h 7 (by decide) (by decide) bw) (v := (p_sh (fv_ga τ 23 7 &&& v) ||| p_pa (fv_ga τ 23 7 &&& v)) ||| 16) (pb_or (pb_or (pb_sh _) (pb_pa _)) rfl)⟩
    · unfold zX7_arithmetic; rw [if_neg (by decide), if_neg (by decide), if_neg (by decide), if_neg (by decide), if_pos rfl, hA.1, lg _ _ bw (show pb 16 from rfl), fv_bv_rv, Int32.or_assoc, Int32.or_comm 16, ← Int32.or_assoc]
    · unfold zX8_reckon; rw [if_neg (by decide), if_neg (by decide), if_neg (by decide), if_neg (by decide), if_pos rfl, m_signs, fv_bi_ri, m_parity, fv_bi_ri]; rfl
  · have bw : pb (fv_ga τ 23 7 ^^^ v) := pb_xor hA.2 hv
    refine ⟨_, _, ?_, ?_, e_f (e_r h 7 (by decide) (by decide) bw) (v := p_sh (fv_ga τ 23 7 ^^^ v) ||| p_pa (fv_ga τ 23 7 ^^^ v)) (pb_or (pb_sh _) (pb_pa _))⟩
    · unfold zX7_arithmetic; rw [if_neg (by decide), if_neg (by decide), if_neg (by decide), if_neg (by decide), if_neg (by decide), if_pos rfl, hA.1, lg _ _ bw (show pb 0 from rfl), fv_bv_rv, Int32.or_zero]
    · unfold zX8_reckon; rw [if_neg (by decide), if_neg (by decide), if_neg (by decide), if_neg (by decide), if_neg (by decide), if_pos rfl, m_signs, fv_bi_ri, m_parity, fv_bi_ri]; rfl
  · have bw : pb (fv_ga τ 23 7 ||| v) := pb_or hA.2 hv
    refine ⟨_, _, ?_, ?_, e_f (e_r h 7 (by decide) (by decide) bw) (v := p_sh (fv_ga τ 23 7 ||| v) ||| p_pa (fv_ga τ 23 7 ||| v)) (pb_or (pb_sh _) (pb_pa _))⟩
    · unfold zX7_arithmetic; rw [if_neg (by decide), if_neg (by decide), if_neg (by decide), if_neg (by decide), if_neg (by decide), if_neg (by decide), if_pos rfl, hA.1, lg _ _ bw (show pb 0 from rfl), fv_bv_rv, Int32.or_zero]
    · unfold zX8_reckon; rw [if_neg (by decide), if_neg (by decide), if_neg (by decide), if_neg (by decide), if_neg (by decide), if_neg (by decide), if_pos rfl, m_signs, fv_bi_ri, m_parity, fv_bi_ri]; rfl
  · refine ⟨_, _, ?_, ?_, e_f (e_f h (pb_tf (fv_ga τ 23 7) v 0)) (v := (p_tf (fv_ga τ 23 7) v 0 &&& ((-41) : Int32)) ||| (v &&& 40)) (pb_or (pb_andl _ _ (pb_tf _ _ _)) (pb_and _ _ rfl))⟩
    · unfold zX7_arithmetic; rw [if_neg (by decide), if_neg (by decide), if_neg (by decide), if_neg (by decide), if_neg (by decide), if_neg (by decide), if_neg (by decide), hA.1, x_taken, fv_bi_ri]; rfl
    · unfold zX8_reckon; rw [if_neg (by decide), if_neg (by decide), if_neg (by decide), if_neg (by decide), if_neg (by decide), if_neg (by decide), if_neg (by decide), m_diff, fv_bi_ri]; rfl
