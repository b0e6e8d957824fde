set_option maxRecDepth 100000
set_option maxHeartbeats 4000000
/-! The plain law: what the model writes, instruction by instruction. -/
theorem pEm_i {σ0 : fv_S} {E : Nat → List Nat} {a i : Int32} (h : pEm σ0 E a i) : fv_gi σ0 60 = i := h.1
def p_l97 (i x2 x3 : Int32) : List Nat := if ¬ x2 = 0 then [] else [44] ++ (if x3 = 0 then [65] else p_tIx i)
def p_l63 (i x1 x2 x3 : Int32) : List Nat := if (2 : Int32) ≤ x1 then (if (4 : Int32) ≤ x1 then ([40] ++ ([1000] ++ [41])) ++ p_l97 i x2 x3 else p_say 675562793 ++ p_l97 i x2 x3) else p_say 675431209 ++ p_l97 i x2 x3
def p_l35 (i x1 x2 s : Int32) : List Nat := if x2 = 0 then p_l63 i x1 x2 s else (if s = 0 then [65] ++ ([44] ++ p_l63 i x1 x2 s) else p_tIx i ++ ([44] ++ p_l63 i x1 x2 s))
def p_l19 (i x1 s : Int32) : List Nat := if x1 = (4 : Int32) then p_l35 i x1 s 1 else (if ¬ x1 = (5 : Int32) then p_l35 i x1 s 0 else p_l35 i x1 s 1)
def p_tLd (i y : Int32) : List Nat := p_say 4998176 ++ (if ¬ (y &&& (1 : Int32)) = (1 : Int32) then p_l19 i y 0 else p_l19 i y 1)
theorem u_ld {σ0 : fv_S} {E : Nat → List Nat} {a i : Int32} (n : Nat) (h : pEm σ0 E a i) (y : Int32) : pU σ0 E (fun σ => zX8_writeLoad (n + 10) y σ) (p_tLd i y) := by
  unfold zX8_writeLoad zX8_writeLoad_19 zX8_writeLoad_30 zX8_writeLoad_35 zX8_writeLoad_57 zX8_writeLoad_63 zX8_writeLoad_97 p_tLd p_l19 p_l35 p_l63 p_l97
  repeat (first | with_reducible exact u_rv σ0 E | with_reducible apply u_i | with_reducible apply u_w | with_reducible apply u_b | with_reducible exact u_say σ0 E n _ (by decide) | exact u_one σ0 E _ (by decide) | with_reducible exact u_m n h | with_reducible exact u_n n h | with_reducible exact u_near n h | with_reducible exact u_pm n h | with_reducible exact u_oc n h _ | with_reducible exact u_pa n h _ _ | with_reducible exact u_co σ0 E n _ | with_reducible exact u_su σ0 E n _ | with_reducible exact u_ix n (pEm_i h))
def p_f138 (y : Int32) : List Nat := if y ≤ (3 : Int32) then [1002] else p_tCo (y - (4 : Int32)) ++ ([44] ++ [1002])
def p_f263 (i y z : Int32) : List Nat := if ¬ z = (5 : Int32) then p_say 1229865760 ++ p_tOc i y else p_say 1145389856 ++ p_tOc i y
def p_tFi (i y z p s0 : Int32) : List Nat :=
  if z = 0 then (if ¬ y = 0 then (if ¬ y = (1 : Int32) then (if ¬ y = (2 : Int32) then p_say 4870688 ++ p_f138 y else p_say 293304424992 ++ p_f138 y) else p_say 76244800587308 ++ p_say 4277799) else p_say 5132112)
  else if z = 1 then (if s0 = 0 then p_say 4998176 ++ (p_tPa i p 0 ++ ([44] ++ [1000])) else p_say 1094992928 ++ (p_tIx i ++ ([44] ++ p_tPa i p 0)))
  else if z = 2 then p_tLd i y
  else if z = 3 then (if s0 = 0 then p_say 1229865760 ++ p_tPa i p 0 else p_say 1145389856 ++ p_tPa i p 0)
  else if z = 4 then p_f263 i y z
  else if z = 5 then p_f263 i y z
  else if z = 6 then p_say 4998176 ++ (p_tOc i y ++ ([44] ++ [1001]))
  else (if ¬ y = 0 then (if ¬ y = (1 : Int32) then (if ¬ y = (2 : Int32) then (if ¬ y = (3 : Int32) then (if ¬ y = (4 : Int32) then (if ¬ y = (5 : Int32) then (if ¬ y = (6 : Int32) then p_say 4408134 else p_say 5456710) else p_say 4411468) else p_say 4473153) else p_say 5395009) else p_say 5393473) else p_say 1381122881) else p_say 1380729665)
theorem u_fi {σ0 : fv_S} {E : Nat → List Nat} {a i : Int32} (n : Nat) (h : pEm σ0 E a i) (y z p s0 : Int32) : pU σ0 E (fun σ => zX8_writeFirst_35 (n + 10) a y z p s0 σ) (p_tFi i y z p s0) := by
  unfold zX8_writeFirst_35 zX8_writeFirst_138 zX8_writeFirst_156 zX8_writeFirst_253 zX8_writeFirst_263 zX8_writeFirst_285 zX8_writeFirst_399 p_tFi p_f138 p_f263
  repeat (first | with_reducible exact u_rv σ0 E | with_reducible apply u_i | with_reducible apply u_w | with_reducible apply u_b | with_reducible exact u_say σ0 E n _ (by decide) | exact u_one σ0 E _ (by decide) | with_reducible exact u_m n h | with_reducible exact u_n n h | with_reducible exact u_near n h | with_reducible exact u_pm n h | with_reducible exact u_oc n h _ | with_reducible exact u_pa n h _ _ | with_reducible exact u_co σ0 E n _ | with_reducible exact u_su σ0 E n _ | with_reducible exact u_ix n (pEm_i h) | with_reducible exact u_ld n h _)
def p_tTh (i y : Int32) : List Nat :=
  if y = 0 then p_say 4870176 ++ [1000] else if y = 1 then p_say 17737 else if y = 2 then p_say 340733993000 ++ ([1001] ++ p_say 2698305)
  else if y = 3 then p_say 80599897418792 ++ ([1001] ++ [41]) else if y = 4 then p_say 4996779144136108332 ++ p_tIx i else if y = 5 then p_say 4996779264157960268 else if y = 6 then p_say 17481 else p_say 17737
theorem u_th {σ0 : fv_S} {E : Nat → List Nat} {a i : Int32} (n : Nat) (h : pEm σ0 E a i) (y : Int32) : pU σ0 E (fun σ => zX8_writeThird (n + 10) y σ) (p_tTh i y) := by
  unfold zX8_writeThird zX8_writeThird_133 p_tTh
  repeat (first | with_reducible exact u_rv σ0 E | with_reducible apply u_i | with_reducible apply u_w | with_reducible apply u_b | with_reducible exact u_say σ0 E n _ (by decide) | exact u_one σ0 E _ (by decide) | with_reducible exact u_m n h | with_reducible exact u_n n h | with_reducible exact u_near n h | with_reducible exact u_pm n h | with_reducible exact u_oc n h _ | with_reducible exact u_pa n h _ _ | with_reducible exact u_co σ0 E n _ | with_reducible exact u_su σ0 E n _ | with_reducible exact u_ix n (pEm_i h))
def p_a180 (y z : Int32) : List Nat := if ¬ z = (2 : Int32) then p_say 288858328096 ++ (p_tCo y ++ ([44] ++ [1000])) else p_say 4870176 ++ (p_tCo y ++ ([44] ++ [1000]))
def p_tLa (i y z p s0 : Int32) : List Nat :=
  if z = 0 then p_say 1380275232 ++ p_tCo y
  else if z = 1 then (if ¬ s0 = 0 then (if (2 : Int32) ≤ p then (if ¬ p = (2 : Int32) then p_say 83855483818028 ++ p_tIx i else p_say 1246765096 ++ (p_tIx i ++ [41])) else (if ¬ p = 0 then p_say 4544600 else p_say 5391700)) else p_say 1347375136 ++ p_tPa i p 1)
  else if z = 2 then p_a180 y z
  else if z = 3 then p_tTh i y
  else if z = 4 then p_a180 y z
  else if z = 5 then (if s0 = 0 then p_say 345028904992 ++ p_tPa i p 1 else p_say 288858328096 ++ [1000])
  else if z = 6 then p_tSu y ++ [1001]
  else p_say 1381192736 ++ p_dN ((8 : Int32) * y).toNatClampNeg
theorem u_la {σ0 : fv_S} {E : Nat → List Nat} {a i : Int32} (n : Nat) (h : pEm σ0 E a i) {y : Int32} (hy : p_y8 y) (z p s0 : Int32) : pU σ0 E (fun σ => zX8_writeLast_34 (n + 10) y z p s0 σ) (p_tLa i y z p s0) := by
  have h8 : (8 : Int32) * y = Int32.ofNat ((8 : Int32) * y).toNatClampNeg ∧ ((8 : Int32) * y).toNatClampNeg < 65536 := by
    rcases hy with rfl | rfl | rfl | rfl | rfl | rfl | rfl | rfl <;> decide
  unfold zX8_writeLast_34 zX8_writeLast_135 zX8_writeLast_180 zX8_writeLast_202 p_tLa p_a180
  repeat (first | with_reducible exact u_rv σ0 E | with_reducible apply u_i | with_reducible apply u_w | with_reducible apply u_b | with_reducible exact u_say σ0 E n _ (by decide) | exact u_one σ0 E _ (by decide) | with_reducible exact u_m n h | with_reducible exact u_n n h | with_reducible exact u_near n h | with_reducible exact u_pm n h | with_reducible exact u_oc n h _ | with_reducible exact u_pa n h _ _ | with_reducible exact u_co σ0 E n _ | with_reducible exact u_su σ0 E n _ | with_reducible exact u_ix n (pEm_i h) | with_reducible exact u_th n h _ | exact u_num σ0 E n h8.1 h8.2)
def p_e111 (y : Int32) (s : Nat) : List Nat := [s] ++ (if y ≤ (5 : Int32) then [] else [82])
def p_e94 (y : Int32) (c : Int64) : List Nat := p_say c ++ (if ¬ (y &&& (1 : Int32)) = 0 then p_e111 y 68 else p_e111 y 73)
def p_t37 (i x y z p s0 : Int32) : List Nat :=
  if ¬ x = (2 : Int32) then
   (if z = 0 then p_say 4804128 ++ (p_tOc i y ++ p_say 740836137)
    else if z = 1 then p_say 5716567799107889452 ++ p_tOc i y
    else if z = 2 then (if s0 = 0 then p_say 23435279138835500 ++ p_tPa i p 0 else p_say 18370928581299244 ++ p_tPa i p 0)
    else if z = 3 then p_say 4998176 ++ (if s0 = 0 then ([40] ++ ([1000] ++ [41])) ++ ([44] ++ p_tPa i p 0) else p_tPa i p 0 ++ ([44] ++ ([40] ++ ([1000] ++ [41]))))
    else if z = 4 then p_say 5129543
    else if z = 5 then (if ¬ y = 0 then p_say 1380275273 else p_say 1380275278)
    else if z = 6 then p_say 4803872 ++ (if ¬ y = 0 then p_dN (y - (1 : Int32)).toNatClampNeg else p_dN 0)
    else (if ¬ y = 0 then (if ¬ y = (1 : Int32) then (if ¬ y = (2 : Int32) then (if ¬ y = (3 : Int32) then (if ¬ y = (4 : Int32) then p_say 5393476 else p_say 5395012) else p_say 83855482629202) else p_say 83855482629193) else p_say 83855483743297) else p_say 83855483153473))
  else (if ¬ z = 0 then (if ¬ z = (1 : Int32) then (if ¬ z = (2 : Int32) then (if y ≤ (5 : Int32) then p_e94 y 5199188 else p_e94 y 20308) else p_e94 y 18766) else p_e94 y 17232) else p_e94 y 19524)
theorem u_37 {σ0 : fv_S} {E : Nat → List Nat} {a i : Int32} (n : Nat) (h : pEm σ0 E a i) {y : Int32} (hy : p_y8 y) (z p s0 : Int32) : pU σ0 E (fun σ => zX8_write237_34 (n + 10) y z p s0 σ) (p_t37 i (fv_gi σ0 61 >>> (6 : Int32)) y z p s0) := by
  have hn1 : ¬ y = 0 → y - (1 : Int32) = Int32.ofNat (y - (1 : Int32)).toNatClampNeg ∧ (y - (1 : Int32)).toNatClampNeg < 65536 := by
    rcases hy with rfl | rfl | rfl | rfl | rfl | rfl | rfl | rfl <;> decide
  have k6 : pU σ0 E (fun σ => if ¬ y = 0 then zX8_write237_331 (n + 10) (y - (1 : Int32)) σ else zX8_write237_331 (n + 10) 0 σ) (if ¬ y = 0 then p_dN (y - (1 : Int32)).toNatClampNeg else p_dN 0) := by
    unfold zX8_write237_331
    by_cases c : y = 0
    · simp only [c, not_true, if_false]; exact u_w (u_num σ0 E n (show (0 : Int32) = Int32.ofNat 0 from rfl) (by omega))
    · simp only [c, not_false_eq_true, if_true]; exact u_w (u_num σ0 E n (hn1 c).1 (hn1 c).2)
  have k94 : ∀ c, p_asc (p_say c) = true → pU σ0 E (fun σ => zX8_write237_94 (n + 10) y c σ) (p_e94 y c) := by
    intro c hc
    unfold zX8_write237_94 zX8_write237_111 p_e94 p_e111
    exact u_b (u_say σ0 E n c hc) (u_i (u_b (u_one σ0 E 68 (by decide)) (u_i (u_rv σ0 E) (u_w (u_one σ0 E 82 (by decide))))) (u_b (u_one σ0 E 73 (by decide)) (u_i (u_rv σ0 E) (u_w (u_one σ0 E 82 (by decide))))))
  have top : pU σ0 E (fun σ => if ¬ fv_gi σ0 61 >>> (6 : Int32) = (2 : Int32) then (fun σ =>
      if z = 0 then fv_bv (zX8_say (n + 10) 4804128 σ) (fun σ9 => fv_bv (zX8_octetName (n + 10) y σ9) (fun σ10 => fv_bv (zX8_say (n + 10) 740836137 σ10) (fun σ11 => fv_rv σ11) fv_no) fv_no) fv_no
      else if z = 1 then fv_bv (zX8_say (n + 10) 5716567799107889452 σ) (fun σ12 => fv_bv (zX8_octetName (n + 10) y σ12) (fun σ13 => fv_rv σ13) fv_no) fv_no
      else if z = 2 then (if s0 = 0 then zX8_write237_220 (n + 10) p 23435279138835500 σ else zX8_write237_220 (n + 10) p 18370928581299244 σ)
      else if z = 3 then fv_bv (zX8_say (n + 10) 4998176 σ) (fun σ14 => if s0 = 0 then fv_bv (zX8_placeM (n + 10) σ14) (fun σ15 => fv_bv (zX8_one 44 σ15) (fun σ16 => fv_bv (zX8_pairName (n + 10) p 0 σ16) (fun σ17 => fv_rv σ17) fv_no) fv_no) fv_no else fv_bv (zX8_pairName (n + 10) p 0 σ14) (fun σ18 => fv_bv (zX8_one 44 σ18) (fun σ19 => fv_bv (zX8_placeM (n + 10) σ19) (fun σ20 => fv_rv σ20) fv_no) fv_no) fv_no) fv_no
      else if z = 4 then fv_bv (zX8_say (n + 10) 5129543 σ) (fun σ21 => fv_rv σ21) fv_no
      else if z = 5 then (if ¬ y = 0 then zX8_write237_306 (n + 10) 1380275273 σ else zX8_write237_306 (n + 10) 1380275278 σ)
      else if z = 6 then fv_bv (zX8_say (n + 10) 4803872 σ) (fun σ22 => if ¬ y = 0 then zX8_write237_331 (n + 10) (y - (1 : Int32)) σ22 else zX8_write237_331 (n + 10) 0 σ22) fv_no
      else (if ¬ y = 0 then (if ¬ y = (1 : Int32) then (if ¬ y = (2 : Int32) then (if ¬ y = (3 : Int32) then (if ¬ y = (4 : Int32) then zX8_write237_395 (n + 10) 5393476 σ else zX8_write237_395 (n + 10) 5395012 σ) else zX8_write237_395 (n + 10) 83855482629202 σ) else zX8_write237_395 (n + 10) 83855482629193 σ) else zX8_write237_395 (n + 10) 83855483743297 σ) else zX8_write237_395 (n + 10) 83855483153473 σ)) σ else (fun σ => (if ¬ z = 0 then (if ¬ z = (1 : Int32) then (if ¬ z = (2 : Int32) then (if y ≤ (5 : Int32) then zX8_write237_94 (n + 10) y 5199188 σ else zX8_write237_94 (n + 10) y 20308 σ) else zX8_write237_94 (n + 10) y 18766 σ) else zX8_write237_94 (n + 10) y 17232 σ) else zX8_write237_94 (n + 10) y 19524 σ)) σ) (p_t37 i (fv_gi σ0 61 >>> (6 : Int32)) y z p s0) := by
    unfold p_t37
    refine u_i ?_ ?_
    · refine u_i (u_b (u_say σ0 E n _ (by decide)) (u_b (u_oc n h y) (u_w (u_say σ0 E n _ (by decide))))) ?_
      refine u_i (u_b (u_say σ0 E n _ (by decide)) (u_w (u_oc n h y))) ?_
      refine u_i ?_ ?_
      · unfold zX8_write237_220
        exact u_i (u_b (u_say σ0 E n _ (by decide)) (u_w (u_pa n h p 0))) (u_b (u_say σ0 E n _ (by decide)) (u_w (u_pa n h p 0)))
      refine u_i (u_b (u_say σ0 E n _ (by decide)) (u_i (u_b (u_pm n h) (u_b (u_one σ0 E 44 (by decide)) (u_w (u_pa n h p 0)))) (u_b (u_pa n h p 0) (u_b (u_one σ0 E 44 (by decide)) (u_w (u_pm n h)))))) ?_
      refine u_i (u_w (u_say σ0 E n _ (by decide))) ?_
      refine u_i ?_ ?_
      · unfold zX8_write237_306
        exact u_i (u_w (u_say σ0 E n _ (by decide))) (u_w (u_say σ0 E n _ (by decide)))
      refine u_i (u_b (u_say σ0 E n _ (by decide)) k6) ?_
      unfold zX8_write237_395
      repeat (first | with_reducible apply u_i | exact u_w (u_say σ0 E n _ (by decide)))
    · repeat (first | with_reducible apply u_i | exact k94 _ (by decide))
  refine u_c (fun σ s => ?_) top
  unfold zX8_write237_34
  rw [s.1 61 (by omega)]
