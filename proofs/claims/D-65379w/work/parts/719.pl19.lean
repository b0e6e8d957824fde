set_option maxRecDepth 100000
set_option maxHeartbeats 4000000
/-! The plain law: clearing. -/
def p_X9 (σ : fv_S) : fv_S := fv_si (fv_si (fv_si (fv_si (fv_si (fv_si (fv_si (fv_sa (fv_sa (fv_sa (fv_sa (fv_sa (fv_sa (fv_sa (fv_sa (fv_sa (fv_sa (fv_sa (fv_sa (fv_sa (fv_sa (fv_sa (fv_sa (fv_sa (fv_sa (fv_sa (fv_sa σ 36 0 0) 37 0 0) 36 1 0) 37 1 0) 36 2 0) 37 2 0) 36 3 0) 37 3 0) 36 4 0) 37 4 0) 36 5 0) 37 5 0) 36 6 0) 37 6 0) 36 7 0) 37 7 0) 36 8 0) 37 8 0) 38 0 0) 38 1 0) 4357 65535) 4358 0) 4359 0) 4360 0) 4361 0) 4362 0) 4363 0
def p_M8 (σ : fv_S) : fv_S := (fv_sa (fv_sa (fv_sa (fv_sa (fv_sa (fv_sa (fv_sa (fv_sa (fv_sa (fv_sa (fv_sa (fv_sa (fv_sa (fv_sa (fv_sa (fv_sa σ 23 0 0) 24 0 0) 23 1 0) 24 1 0) 23 2 0) 24 2 0) 23 3 0) 24 3 0) 23 4 0) 24 4 0) 23 5 0) 24 5 0) 23 6 0) 24 6 0) 23 7 0) 24 7 0)
theorem x_clr9 (N m : Nat) (σ : fv_S) : zX7_clear_23 N (m + 10) 0 σ = zX7_clear_101 N N 0 (p_X9 σ) := rfl
theorem m_clr8 (N m : Nat) (σ : fv_S) : zX8_clear_23 N (m + 10) 0 σ = zX8_clear_51 N N 0 (p_M8 σ) := rfl
theorem c_clear {σ τ : fv_S} (h : pMQ σ τ) : ∃ σ' τ', zX0_clear 65546 σ = fv_rv σ' ∧ zX8_clear 65546 τ = fv_rv τ' ∧ pOp σ τ σ' τ' := by
  obtain ⟨r, hr, h⟩ := pMQ_o h
  have x : zX0_clear 65546 σ = fv_rv (fv_si (fv_si (fv_si (fv_si (fv_sl (fv_sw (fv_sw (p_X9 (fv_sw σ 35 (p_z (fv_gw σ 35) 0 65536))) 39 (p_z (fv_gw (p_X9 (fv_sw σ 35 (p_z (fv_gw σ 35) 0 65536))) 39) 0 256)) 40 (p_z (fv_gw (p_X9 (fv_sw σ 35 (p_z (fv_gw σ 35) 0 65536))) 40) 0 256)) 4366 0) 4367 0) 4369 0) 4370 0) 4368 0) := by
    unfold zX0_clear zX7_clear
    rw [show zX7_clear_2 65546 65546 0 σ = zX7_clear_23 65546 65546 0 (fv_sw σ 35 (p_z (fv_gw σ 35) 0 65536)) from x_clr2 65546 65536 0 65546 σ (by omega) (by omega) (by omega)]
    rw [show zX7_clear_23 65546 65546 0 (fv_sw σ 35 (p_z (fv_gw σ 35) 0 65536)) = zX7_clear_101 65546 65546 0 (p_X9 (fv_sw σ 35 (p_z (fv_gw σ 35) 0 65536))) from x_clr9 65546 65536 _]
    rw [show zX7_clear_101 65546 65546 0 (p_X9 (fv_sw σ 35 (p_z (fv_gw σ 35) 0 65536))) = _ from x_clr3 65546 256 0 65546 _ (by omega) (by omega) (by omega), fv_bv_rv]
  obtain ⟨τ1, e1, m⟩ := m_clr3 65546 256 0 65546 (p_M8 (fv_sw τ 13 (p_z (fv_gw τ 13) 0 65536))) (by omega) (by omega) (by omega)
  have m' : zX8_clear 65546 τ = fv_rv (fv_sl (fv_si (fv_si (fv_si (fv_si (fv_si (fv_si (fv_si (fv_si (fv_sa (fv_sa (fv_si (fv_si τ1 72 0) 73 0) 25 1 0) 25 2 0) 75 65535) 76 0) 77 0) 78 0) 79 0) 82 0) 83 0) 85 0) 86 0) := by
    unfold zX8_clear
    rw [show zX8_clear_2 65546 65546 0 τ = zX8_clear_23 65546 65546 0 (fv_sw τ 13 (p_z (fv_gw τ 13) 0 65536)) from m_clr2 65546 65536 0 65546 τ (by omega) (by omega) (by omega)]
    rw [show zX8_clear_23 65546 65546 0 (fv_sw τ 13 (p_z (fv_gw τ 13) 0 65536)) = zX8_clear_51 65546 65546 0 (p_M8 (fv_sw τ 13 (p_z (fv_gw τ 13) 0 65536))) from m_clr8 65546 65536 _]
    exact m
  refine ⟨_, _, x, m', ?_⟩
  subst e1
  have z : ∀ (f : Nat → Int32) (n i : Nat), i < n → p_z f 0 n i = 0 := fun f n i hi => if_pos ⟨by omega, hi⟩
  have fx0 : pFX σ (fv_sw σ 35 (p_z (fv_gw σ 35) 0 65536)) := ⟨fun _ _ => rfl, fun k hk => if_neg (by omega), rfl⟩
  have fm0 : pFM τ (fv_sw τ 13 (p_z (fv_gw τ 13) 0 65536)) := ⟨fun _ _ => rfl, fun k hk hj => if_neg hj, rfl⟩
  refine pOp_of (r := 0) rfl ⟨?_, ?_, ?_, ?_, ?_, ?_, ?_, rfl, rfl, rfl, ?_, ?_⟩
  · intro i hi
    show pb (p_z (fv_gw τ 13) 0 65536 i) ∧ p_z (fv_gw σ 35) 0 65536 i = p_se (p_z (fv_gw τ 13) 0 65536 i)
    rw [z _ _ i hi, z _ _ i hi]
    exact ⟨rfl, by decide⟩
  · refine ⟨fun i hi h6 => ?_, (rfl : pb 0), (rfl : (0 : Int32) = 0)⟩
    have : i = 0 ∨ i = 1 ∨ i = 2 ∨ i = 3 ∨ i = 4 ∨ i = 5 ∨ i = 7 := by omega
    rcases this with rfl | rfl | rfl | rfl | rfl | rfl | rfl <;> exact ⟨(rfl : pb 0), (rfl : (0 : Int32) = 0)⟩
  · refine ⟨fun i hi h6 => ?_, (rfl : pb 0), (rfl : (0 : Int32) = 0)⟩
    have : i = 0 ∨ i = 1 ∨ i = 2 ∨ i = 3 ∨ i = 4 ∨ i = 5 ∨ i = 7 := by omega
    rcases this with rfl | rfl | rfl | rfl | rfl | rfl | rfl <;> exact ⟨(rfl : pb 0), (rfl : (0 : Int32) = 0)⟩
  · exact ⟨⟨(rfl : pw 0), (rfl : (0 : Int32) = 0)⟩, (rfl : pw 0), (rfl : (0 : Int32) = 0)⟩
  · intro i hi
    show pb (p_z _ 0 256 i) ∧ p_z _ 0 256 i = p_z _ 0 256 i
    rw [z _ _ i hi, z _ _ i hi]
    exact ⟨(rfl : pb 0), rfl⟩
  · intro i hi
    show pb (p_z _ 0 256 i) ∧ p_z _ 0 256 i = p_z _ 0 256 i
    rw [z _ _ i hi, z _ _ i hi]
    exact ⟨(rfl : pb 0), rfl⟩
  · have B : p_bit 0 := Or.inl rfl
    have Z : (0 : Int32) = 0 := rfl
    exact ⟨⟨(rfl : pw 65535), (rfl : (65535 : Int32) = 65535)⟩, ⟨(rfl : pb 0), Z⟩, ⟨(rfl : pb 0), Z⟩, ⟨B, Z⟩, ⟨B, Z⟩, ⟨(Or.inl Z : (0 : Int32) = 0 ∨ (0 : Int32) = 1 ∨ (0 : Int32) = 2), Z⟩, ⟨B, Z⟩, ⟨(g_i h).2.2.2.2.2.2.2.1.1, (fun e => absurd rfl e : (0 : Int32) ≠ 0 → (0 : Int32) = fv_gi τ 84)⟩, ⟨B, Z⟩, ⟨B, Z⟩⟩
  · have a1 : pFX σ (p_X9 (fv_sw σ 35 (p_z (fv_gw σ 35) 0 65536))) := (pFX_si (pFX_si (pFX_si (pFX_si (pFX_si (pFX_si (pFX_si (pFX_sa (pFX_sa (pFX_sa (pFX_sa (pFX_sa (pFX_sa (pFX_sa (pFX_sa (pFX_sa (pFX_sa (pFX_sa (pFX_sa (pFX_sa (pFX_sa (pFX_sa (pFX_sa (pFX_sa (pFX_sa (pFX_sa (pFX_sa fx0 36 _ _ (by omega)) 37 _ _ (by omega)) 36 _ _ (by omega)) 37 _ _ (by omega)) 36 _ _ (by omega)) 37 _ _ (by omega)) 36 _ _ (by omega)) 37 _ _ (by omega)) 36 _ _ (by omega)) 37 _ _ (by omega)) 36 _ _ (by omega)) 37 _ _ (by omega)) 36 _ _ (by omega)) 37 _ _ (by omega)) 36 _ _ (by omega)) 37 _ _ (by omega)) 36 _ _ (by omega)) 37 _ _ (by omega)) 38 _ _ (by omega)) 38 _ _ (by omega)) 4357 _ (by omega)) 4358 _ (by omega)) 4359 _ (by omega)) 4360 _ (by omega)) 4361 _ (by omega)) 4362 _ (by omega)) 4363 _ (by omega))
    have a2 : ∀ (f g : Nat → Int32), pFX σ (fv_sw (fv_sw (p_X9 (fv_sw σ 35 (p_z (fv_gw σ 35) 0 65536))) 39 f) 40 g) := fun f g => ⟨a1.1, fun k hk => (if_neg (by omega)).trans ((if_neg (by omega)).trans (a1.2.1 k hk)), a1.2.2⟩
    exact pFX_si (pFX_si (pFX_si (pFX_si (pFX_sl (a2 _ _) _ _) _ _ (by omega)) _ _ (by omega)) _ _ (by omega)) _ _ (by omega)
  · have a1 : pFM τ (p_M8 (fv_sw τ 13 (p_z (fv_gw τ 13) 0 65536))) := (pFM_sa (pFM_sa (pFM_sa (pFM_sa (pFM_sa (pFM_sa (pFM_sa (pFM_sa (pFM_sa (pFM_sa (pFM_sa (pFM_sa (pFM_sa (pFM_sa (pFM_sa (pFM_sa fm0 23 _ _ (by omega)) 24 _ _ (by omega)) 23 _ _ (by omega)) 24 _ _ (by omega)) 23 _ _ (by omega)) 24 _ _ (by omega)) 23 _ _ (by omega)) 24 _ _ (by omega)) 23 _ _ (by omega)) 24 _ _ (by omega)) 23 _ _ (by omega)) 24 _ _ (by omega)) 23 _ _ (by omega)) 24 _ _ (by omega)) 23 _ _ (by omega)) 24 _ _ (by omega))
    have a2 : ∀ (f g : Nat → Int32), pFM τ (fv_sw (fv_sw (p_M8 (fv_sw τ 13 (p_z (fv_gw τ 13) 0 65536))) 26 f) 27 g) := fun f g => ⟨a1.1, fun k hk hj => (if_neg (by omega)).trans ((if_neg (by omega)).trans (a1.2.1 k hk hj)), a1.2.2⟩
    exact pFM_sl (pFM_si (pFM_si (pFM_si (pFM_si (pFM_si (pFM_si (pFM_si (pFM_si (pFM_sa (pFM_sa (pFM_si (pFM_si (a2 _ _) 72 _ (by omega)) 73 _ (by omega)) 25 _ _ (by omega)) 25 _ _ (by omega)) 75 _ (by omega)) 76 _ (by omega)) 77 _ (by omega)) 78 _ (by omega)) 79 _ (by omega)) 82 _ (by omega)) 83 _ (by omega)) 85 _ (by omega)) _ _
