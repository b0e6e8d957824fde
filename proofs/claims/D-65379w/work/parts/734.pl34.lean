set_option maxRecDepth 100000
set_option maxHeartbeats 4000000
/-! The plain law: operands; what the class writes of a form. -/
def p_hN (E : Nat → List Nat) (ka : Nat) (num : Int32) : Prop := ∃ k, k < 65536 ∧ num = Int32.ofNat k ∧ (ka = 4 ∨ ka = 8 → E 1 = p_dN k) ∧ (ka = 5 ∨ ka = 7 → E 0 = p_dN k) ∧ (ka = 6 → E 2 = p_dN k)
noncomputable def p_tX (m : p_F) : List Nat := p_nm m.2.2.1 ++ (if m.2.2.2.1 = 0 then (if m.2.2.2.2.2.1 = 0 then [] else [44] ++ p_xO m.2.2.2.2.2.1 m.2.2.2.2.2.2) else [32] ++ (p_xO m.2.2.2.1 m.2.2.2.2.1 ++ (if m.2.2.2.2.2.1 = 0 then [] else [44] ++ p_xO m.2.2.2.2.2.1 m.2.2.2.2.2.2)))
theorem p_ofeq {n : Nat} (h : n < 256) (m : Nat) (hm : m < 256) : ∀ {v : Int32}, v = Int32.ofNat m → ((Int32.ofNat n = v) ↔ n = m) := by
  intro v e; subst e; rw [p_lit h m hm]
theorem vx_op (σ0 : fv_S) (E : Nat → List Nat) (n : Nat) {ka va : Nat} (hk : p_xk ka va) {num d : Int32} (hN : p_hN E ka num) (hD : ka = 10 → p_hD E d) : pVx σ0 E (fun σ => zX6_operand_30 (n + 20) (Int32.ofNat ka) (Int32.ofNat va) num d σ) (p_xO ka va) := by
  obtain ⟨k15, k8, k2, kv⟩ := hk
  obtain ⟨k, hk, en, n1, n0, n2⟩ := hN
  have num0 : ∀ j, E j = p_dN k → pVx σ0 E (fun σ => zX6_putNumber_30 (n + 20) num σ) [1000 + j] := fun j hj => vx_num0 σ0 E n en hk hj
  have c : ka = 0 ∨ ka = 1 ∨ ka = 2 ∨ ka = 3 ∨ ka = 4 ∨ ka = 5 ∨ ka = 6 ∨ ka = 7 ∨ ka = 8 ∨ ka = 9 ∨ ka = 10 ∨ ka = 11 ∨ ka = 12 ∨ ka = 13 ∨ ka = 14 := by omega
  have vn : pVx σ0 E (fun σ => zX6_operand_30_180 (n + 20) (Int32.ofNat va) σ) (p_dN va) := by
    unfold zX6_operand_30_180
    exact vx_w (vx_num σ0 E n rfl (by omega))
  rcases c with rfl | rfl | rfl | rfl | rfl | rfl | rfl | rfl | rfl | rfl | rfl | rfl | rfl | rfl | rfl
  · show pVx σ0 E (fun σ => zX6_operand_30_180 (n + 20) (Int32.ofNat va) σ) (p_dN va); exact vn
  · by_cases c6 : va = 6
    · subst c6
      show pVx σ0 E (fun σ => fv_bv (zX6_within_30 (n + 20) (Int32.ofNat 88) σ) (fun σ9 => fv_rv σ9) fv_no) ([40] ++ (p_nm 88 ++ [41]))
      exact vx_w (vx_in σ0 E n 88 (by omega))
    · have v8 := k8 (Or.inl rfl)
      have e : (fun σ => zX6_operand_30 (n + 20) (Int32.ofNat 1) (Int32.ofNat va) num d σ) = (fun σ => fv_bv (zX6_putName_30 (n + 20) (Int32.ofNat (p_xR va)) σ) (fun σ8 => fv_rv σ8) fv_no) := by
        funext σ
        unfold zX6_operand_30
        rw [if_pos (show Int32.ofNat 1 = 1 from rfl), if_pos (show ¬ Int32.ofNat va = 6 from fun e => c6 ((p_ofeq kv 6 (by omega) rfl).1 e)), x_reg v8, fv_bi_ri]
      rw [e]
      have e2 : p_xO 1 va = p_nm (p_xR va) := by unfold p_xO; rw [if_pos rfl, if_neg c6]
      rw [e2]
      exact vx_w (vx_nm σ0 E n _ (k_nm va v8).1.2)
  · have v8 := k8 (Or.inr (Or.inl rfl))
    have e : (fun σ => zX6_operand_30 (n + 20) (Int32.ofNat 2) (Int32.ofNat va) num d σ) = (fun σ => fv_bv (zX6_putName_30 (n + 20) (Int32.ofNat (p_xP va)) σ) (fun σ8 => fv_rv σ8) fv_no) := by
      funext σ
      unfold zX6_operand_30
      rw [if_neg (show ¬ Int32.ofNat 2 = 1 by decide), if_pos (show Int32.ofNat 2 = 2 from rfl), x_par v8, fv_bi_ri]
    rw [e]
    exact vx_w (vx_nm σ0 E n _ (k_nm va v8).2.1.2)
  · have v8 := k8 (Or.inr (Or.inr (Or.inl rfl)))
    have e : (fun σ => zX6_operand_30 (n + 20) (Int32.ofNat 3) (Int32.ofNat va) num d σ) = (fun σ => fv_bv (zX6_putName_30 (n + 20) (Int32.ofNat (p_xC va)) σ) (fun σ8 => fv_rv σ8) fv_no) := by
      funext σ
      unfold zX6_operand_30
      rw [if_neg (show ¬ Int32.ofNat 3 = 1 by decide), if_neg (show ¬ Int32.ofNat 3 = 2 by decide), if_pos (show Int32.ofNat 3 = 3 from rfl), x_cnd v8, fv_bi_ri]
    rw [e]
    exact vx_w (vx_nm σ0 E n _ (k_nm va v8).2.2.1.2)
  · show pVx σ0 E (fun σ => zX6_operand_30_120 (n + 20) num σ) [1001]
    unfold zX6_operand_30_120; exact vx_w (num0 1 (n1 (Or.inl rfl)))
  · show pVx σ0 E (fun σ => zX6_operand_30_120 (n + 20) num σ) [1000]
    unfold zX6_operand_30_120; exact vx_w (num0 0 (n0 (Or.inl rfl)))
  · show pVx σ0 E (fun σ => zX6_operand_30_120 (n + 20) num σ) [1002]
    unfold zX6_operand_30_120; exact vx_w (num0 2 (n2 rfl))
  · show pVx σ0 E (fun σ => zX6_operand_30_128 (n + 20) num σ) ([40] ++ ([1000] ++ [41]))
    unfold zX6_operand_30_128
    exact vx_b (vx_one σ0 E 40 (by omega)) (vx_b (num0 0 (n0 (Or.inr rfl))) (vx_w (vx_one σ0 E 41 (by omega))))
  · show pVx σ0 E (fun σ => zX6_operand_30_128 (n + 20) num σ) ([40] ++ ([1001] ++ [41]))
    unfold zX6_operand_30_128
    exact vx_b (vx_one σ0 E 40 (by omega)) (vx_b (num0 1 (n1 (Or.inr rfl))) (vx_w (vx_one σ0 E 41 (by omega))))
  · have v8 := k8 (Or.inr (Or.inr (Or.inr rfl)))
    have e : (fun σ => zX6_operand_30 (n + 20) (Int32.ofNat 9) (Int32.ofNat va) num d σ) = (fun σ => fv_bv (zX6_within_30 (n + 20) (Int32.ofNat (p_xA va)) σ) (fun σ8 => fv_rv σ8) fv_no) := by
      funext σ
      unfold zX6_operand_30
      rw [if_neg (show ¬ Int32.ofNat 9 = 1 by decide), if_neg (show ¬ Int32.ofNat 9 = 2 by decide), if_neg (show ¬ Int32.ofNat 9 = 3 by decide), if_neg (show ¬ Int32.ofNat 9 = 4 by decide), if_neg (show ¬ Int32.ofNat 9 = 5 by decide), if_neg (show ¬ Int32.ofNat 9 = 6 by decide), if_neg (show ¬ Int32.ofNat 9 = 7 by decide), if_neg (show ¬ Int32.ofNat 9 = 8 by decide), if_pos (show Int32.ofNat 9 = 9 from rfl), x_atn v8, fv_bi_ri]
    rw [e]
    exact vx_w (vx_in σ0 E n _ (k_nm va v8).2.2.2.2)
  · show pVx σ0 E (fun σ => fv_bv (zX6_putIndex_30 (n + 20) (Int32.ofNat va) d σ) (fun σ19 => fv_rv σ19) fv_no) ([40] ++ (p_nm (90 + va) ++ ([1003] ++ [41])))
    exact vx_w (vx_id σ0 E n va (k2 (Or.inl rfl)) (hD rfl))
  · show pVx σ0 E (fun σ => zX6_operand_30_180 (n + 20) (Int32.ofNat va) σ) (p_dN va); exact vn
  · show pVx σ0 E (fun σ => zX6_operand_30_180 (n + 20) (Int32.ofNat va) σ) (p_dN va); exact vn
  · show pVx σ0 E (fun σ => zX6_operand_30_180 (n + 20) (Int32.ofNat va) σ) (p_dN va); exact vn
  · have e : (fun σ => zX6_operand_30 (n + 20) (Int32.ofNat 14) (Int32.ofNat va) num d σ) = (fun σ => fv_bv (zX6_putName_30 (n + 20) (Int32.ofNat (82 + va)) σ) (fun σ8 => fv_rv σ8) fv_no) := by
      funext σ
      show fv_bv (zX6_putName_30 (n + 20) ((82 : Int32) + Int32.ofNat va) σ) (fun σ20 => fv_rv σ20) fv_no = _
      rw [show (82 : Int32) + Int32.ofNat va = Int32.ofNat (82 + va) from (Int32.ofNat_add 82 va).symm]
    rw [e]
    exact vx_w (vx_nm σ0 E n _ (by have := k2 (Or.inr rfl); omega))
theorem vy_op (σ0 : fv_S) (E : Nat → List Nat) (n : Nat) {ka va : Nat} (hk : p_xk ka va) {num d : Int32} (hN : p_hN E ka num) (hD : ka = 10 → p_hD E d) : pVy σ0 E (fun σ => zX6_operand_32 (n + 20) (Int32.ofNat ka) (Int32.ofNat va) num d σ) (p_xO ka va) := by
  obtain ⟨k15, k8, k2, kv⟩ := hk
  obtain ⟨k, hk, en, n1, n0, n2⟩ := hN
  have num0 : ∀ j, E j = p_dN k → pVy σ0 E (fun σ => zX6_putNumber_32 (n + 20) num σ) [1000 + j] := fun j hj => vy_num0 σ0 E n en hk hj
  have c : ka = 0 ∨ ka = 1 ∨ ka = 2 ∨ ka = 3 ∨ ka = 4 ∨ ka = 5 ∨ ka = 6 ∨ ka = 7 ∨ ka = 8 ∨ ka = 9 ∨ ka = 10 ∨ ka = 11 ∨ ka = 12 ∨ ka = 13 ∨ ka = 14 := by omega
  have vn : pVy σ0 E (fun σ => zX6_operand_32_180 (n + 20) (Int32.ofNat va) σ) (p_dN va) := by
    unfold zX6_operand_32_180
    exact vy_w (vy_num σ0 E n rfl (by omega))
  rcases c with rfl | rfl | rfl | rfl | rfl | rfl | rfl | rfl | rfl | rfl | rfl | rfl | rfl | rfl | rfl
  · show pVy σ0 E (fun σ => zX6_operand_32_180 (n + 20) (Int32.ofNat va) σ) (p_dN va); exact vn
  · by_cases c6 : va = 6
    · subst c6
      show pVy σ0 E (fun σ => fv_bv (zX6_within_32 (n + 20) (Int32.ofNat 88) σ) (fun σ9 => fv_rv σ9) fv_no) ([40] ++ (p_nm 88 ++ [41]))
      exact vy_w (vy_in σ0 E n 88 (by omega))
    · have v8 := k8 (Or.inl rfl)
      have e : (fun σ => zX6_operand_32 (n + 20) (Int32.ofNat 1) (Int32.ofNat va) num d σ) = (fun σ => fv_bv (zX6_putName_32 (n + 20) (Int32.ofNat (p_xR va)) σ) (fun σ8 => fv_rv σ8) fv_no) := by
        funext σ
        unfold zX6_operand_32
        rw [if_pos (show Int32.ofNat 1 = 1 from rfl), if_pos (show ¬ Int32.ofNat va = 6 from fun e => c6 ((p_ofeq kv 6 (by omega) rfl).1 e)), x_reg v8, fv_bi_ri]
      rw [e]
      have e2 : p_xO 1 va = p_nm (p_xR va) := by unfold p_xO; rw [if_pos rfl, if_neg c6]
      rw [e2]
      exact vy_w (vy_nm σ0 E n _ (k_nm va v8).1.2)
  · have v8 := k8 (Or.inr (Or.inl rfl))
    have e : (fun σ => zX6_operand_32 (n + 20) (Int32.ofNat 2) (Int32.ofNat va) num d σ) = (fun σ => fv_bv (zX6_putName_32 (n + 20) (Int32.ofNat (p_xP va)) σ) (fun σ8 => fv_rv σ8) fv_no) := by
      funext σ
      unfold zX6_operand_32
      rw [if_neg (show ¬ Int32.ofNat 2 = 1 by decide), if_pos (show Int32.ofNat 2 = 2 from rfl), x_par v8, fv_bi_ri]
    rw [e]
    exact vy_w (vy_nm σ0 E n _ (k_nm va v8).2.1.2)
  · have v8 := k8 (Or.inr (Or.inr (Or.inl rfl)))
    have e : (fun σ => zX6_operand_32 (n + 20) (Int32.ofNat 3) (Int32.ofNat va) num d σ) = (fun σ => fv_bv (zX6_putName_32 (n + 20) (Int32.ofNat (p_xC va)) σ) (fun σ8 => fv_rv σ8) fv_no) := by
      funext σ
      unfold zX6_operand_32
      rw [if_neg (show ¬ Int32.ofNat 3 = 1 by decide), if_neg (show ¬ Int32.ofNat 3 = 2 by decide), if_pos (show Int32.ofNat 3 = 3 from rfl), x_cnd v8, fv_bi_ri]
    rw [e]
    exact vy_w (vy_nm σ0 E n _ (k_nm va v8).2.2.1.2)
  · show pVy σ0 E (fun σ => zX6_operand_32_120 (n + 20) num σ) [1001]
    unfold zX6_operand_32_120; exact vy_w (num0 1 (n1 (Or.inl rfl)))
  · show pVy σ0 E (fun σ => zX6_operand_32_120 (n + 20) num σ) [1000]
    unfold zX6_operand_32_120; exact vy_w (num0 0 (n0 (Or.inl rfl)))
  · show pVy σ0 E (fun σ => zX6_operand_32_120 (n + 20) num σ) [1002]
    unfold zX6_operand_32_120; exact vy_w (num0 2 (n2 rfl))
  · show pVy σ0 E (fun σ => zX6_operand_32_128 (n + 20) num σ) ([40] ++ ([1000] ++ [41]))
    unfold zX6_operand_32_128
    exact vy_b (vy_one σ0 E 40 (by omega)) (vy_b (num0 0 (n0 (Or.inr rfl))) (vy_w (vy_one σ0 E 41 (by omega))))
  · show pVy σ0 E (fun σ => zX6_operand_32_128 (n + 20) num σ) ([40] ++ ([1001] ++ [41]))
    unfold zX6_operand_32_128
    exact vy_b (vy_one σ0 E 40 (by omega)) (vy_b (num0 1 (n1 (Or.inr rfl))) (vy_w (vy_one σ0 E 41 (by omega))))
  · have v8 := k8 (Or.inr (Or.inr (Or.inr rfl)))
    have e : (fun σ => zX6_operand_32 (n + 20) (Int32.ofNat 9) (Int32.ofNat va) num d σ) = (fun σ => fv_bv (zX6_within_32 (n + 20) (Int32.ofNat (p_xA va)) σ) (fun σ8 => fv_rv σ8) fv_no) := by
      funext σ
      unfold zX6_operand_32
      rw [if_neg (show ¬ Int32.ofNat 9 = 1 by decide), if_neg (show ¬ Int32.ofNat 9 = 2 by decide), if_neg (show ¬ Int32.ofNat 9 = 3 by decide), if_neg (show ¬ Int32.ofNat 9 = 4 by decide), if_neg (show ¬ Int32.ofNat 9 = 5 by decide), if_neg (show ¬ Int32.ofNat 9 = 6 by decide), if_neg (show ¬ Int32.ofNat 9 = 7 by decide), if_neg (show ¬ Int32.ofNat 9 = 8 by decide), if_pos (show Int32.ofNat 9 = 9 from rfl), x_atn v8, fv_bi_ri]
    rw [e]
    exact vy_w (vy_in σ0 E n _ (k_nm va v8).2.2.2.2)
  · show pVy σ0 E (fun σ => fv_bv (zX6_putIndex_32 (n + 20) (Int32.ofNat va) d σ) (fun σ19 => fv_rv σ19) fv_no) ([40] ++ (p_nm (90 + va) ++ ([1003] ++ [41])))
    exact vy_w (vy_id σ0 E n va (k2 (Or.inl rfl)) (hD rfl))
  · show pVy σ0 E (fun σ => zX6_operand_32_180 (n + 20) (Int32.ofNat va) σ) (p_dN va); exact vn
  · show pVy σ0 E (fun σ => zX6_operand_32_180 (n + 20) (Int32.ofNat va) σ) (p_dN va); exact vn
  · show pVy σ0 E (fun σ => zX6_operand_32_180 (n + 20) (Int32.ofNat va) σ) (p_dN va); exact vn
  · have e : (fun σ => zX6_operand_32 (n + 20) (Int32.ofNat 14) (Int32.ofNat va) num d σ) = (fun σ => fv_bv (zX6_putName_32 (n + 20) (Int32.ofNat (82 + va)) σ) (fun σ8 => fv_rv σ8) fv_no) := by
      funext σ
      show fv_bv (zX6_putName_32 (n + 20) ((82 : Int32) + Int32.ofNat va) σ) (fun σ20 => fv_rv σ20) fv_no = _
      rw [show (82 : Int32) + Int32.ofNat va = Int32.ofNat (82 + va) from (Int32.ofNat_add 82 va).symm]
    rw [e]
    exact vy_w (vy_nm σ0 E n _ (by have := k2 (Or.inr rfl); omega))
