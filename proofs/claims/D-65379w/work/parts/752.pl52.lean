set_option maxRecDepth 100000
set_option maxHeartbeats 4000000
/-! The plain law: the model asks which word a name is. (printed by gen52.py) -/
theorem k_nmz : ∀ j, j < 99 → (∀ c, c ∈ p_nm j → 1 ≤ c ∧ c < 256) ∧ (p_nm j).length ≤ 8 ∧ p_nm j ≠ [] := by decide +kernel
theorem m_wq {l : List Nat} (hz : qnz l) {j : Nat} (hj : j < 99) {c : Int64} (hc : c = qwd (p_nm j)) : lg_cmp (qwd l) c = 0 ↔ qri l = j := by
  rw [lg_eq, hc, qri_eq hj]
  obtain ⟨a, b, d⟩ := k_nmz j hj
  exact ⟨fun h => qwd_inj hz a b d h, fun h => by rw [h]⟩
theorem m_wf {f : Int64 → fv_S → Option fv_O} {l : List Nat} {g : Nat → Int32} {d : Int32} (k : ∀ x, p_K (f x)) (fin : ∀ j, j < 99 → p_v (f (qwd (p_nm j)) p_σd) = g j) (hd : qri l = 99 → f (qwd l) p_σd = fv_ri d p_σd) (τ : fv_S) : f (qwd l) τ = fv_ri (if qri l < 99 then g (qri l) else d) τ := by
  rw [p_Kv (k _) τ]
  by_cases c : qri l < 99
  · rw [if_pos c, ← fin _ c, qri_lt c]
  · rw [if_neg c, hd (by have := qri_le l; omega)]; rfl
theorem K_m_isReg (x : Int64) : p_K (fun τ => zX8_isRegister x τ) := by
  unfold zX8_isRegister; repeat (first | exact p_Kr _ | with_reducible apply p_Ki)
theorem m_isReg {l : List Nat} (hz : qnz l) (τ : fv_S) : zX8_isRegister (qwd l) τ = fv_ri (if qri l < 99 then (fun j => if 75 ≤ j then 1 else 0) (qri l) else 0) τ := by
  refine m_wf (f := fun x τ => zX8_isRegister x τ) (g := fun j => if 75 ≤ j then 1 else 0) K_m_isReg (by decide +kernel) (fun h => ?_) τ
  have w65 : ¬ lg_cmp (qwd l) 65 = 0 := fun e => by have := (m_wq hz (j := 75) (by omega) (by decide +kernel)).1 e; omega
  have w66 : ¬ lg_cmp (qwd l) 66 = 0 := fun e => by have := (m_wq hz (j := 76) (by omega) (by decide +kernel)).1 e; omega
  have w67 : ¬ lg_cmp (qwd l) 67 = 0 := fun e => by have := (m_wq hz (j := 77) (by omega) (by decide +kernel)).1 e; omega
  have w68 : ¬ lg_cmp (qwd l) 68 = 0 := fun e => by have := (m_wq hz (j := 78) (by omega) (by decide +kernel)).1 e; omega
  have w69 : ¬ lg_cmp (qwd l) 69 = 0 := fun e => by have := (m_wq hz (j := 79) (by omega) (by decide +kernel)).1 e; omega
  have w72 : ¬ lg_cmp (qwd l) 72 = 0 := fun e => by have := (m_wq hz (j := 80) (by omega) (by decide +kernel)).1 e; omega
  have w76 : ¬ lg_cmp (qwd l) 76 = 0 := fun e => by have := (m_wq hz (j := 81) (by omega) (by decide +kernel)).1 e; omega
  have w73 : ¬ lg_cmp (qwd l) 73 = 0 := fun e => by have := (m_wq hz (j := 82) (by omega) (by decide +kernel)).1 e; omega
  have w82 : ¬ lg_cmp (qwd l) 82 = 0 := fun e => by have := (m_wq hz (j := 83) (by omega) (by decide +kernel)).1 e; omega
  have w16710 : ¬ lg_cmp (qwd l) 16710 = 0 := fun e => by have := (m_wq hz (j := 84) (by omega) (by decide +kernel)).1 e; omega
  have w4277799 : ¬ lg_cmp (qwd l) 4277799 = 0 := fun e => by have := (m_wq hz (j := 85) (by omega) (by decide +kernel)).1 e; omega
  have w16963 : ¬ lg_cmp (qwd l) 16963 = 0 := fun e => by have := (m_wq hz (j := 86) (by omega) (by decide +kernel)).1 e; omega
  have w17477 : ¬ lg_cmp (qwd l) 17477 = 0 := fun e => by have := (m_wq hz (j := 87) (by omega) (by decide +kernel)).1 e; omega
  have w18508 : ¬ lg_cmp (qwd l) 18508 = 0 := fun e => by have := (m_wq hz (j := 88) (by omega) (by decide +kernel)).1 e; omega
  have w21328 : ¬ lg_cmp (qwd l) 21328 = 0 := fun e => by have := (m_wq hz (j := 89) (by omega) (by decide +kernel)).1 e; omega
  have w18776 : ¬ lg_cmp (qwd l) 18776 = 0 := fun e => by have := (m_wq hz (j := 90) (by omega) (by decide +kernel)).1 e; omega
  have w18777 : ¬ lg_cmp (qwd l) 18777 = 0 := fun e => by have := (m_wq hz (j := 91) (by omega) (by decide +kernel)).1 e; omega
  have w20058 : ¬ lg_cmp (qwd l) 20058 = 0 := fun e => by have := (m_wq hz (j := 92) (by omega) (by decide +kernel)).1 e; omega
  have w90 : ¬ lg_cmp (qwd l) 90 = 0 := fun e => by have := (m_wq hz (j := 93) (by omega) (by decide +kernel)).1 e; omega
  have w20035 : ¬ lg_cmp (qwd l) 20035 = 0 := fun e => by have := (m_wq hz (j := 94) (by omega) (by decide +kernel)).1 e; omega
  have w20559 : ¬ lg_cmp (qwd l) 20559 = 0 := fun e => by have := (m_wq hz (j := 95) (by omega) (by decide +kernel)).1 e; omega
  have w20549 : ¬ lg_cmp (qwd l) 20549 = 0 := fun e => by have := (m_wq hz (j := 96) (by omega) (by decide +kernel)).1 e; omega
  have w80 : ¬ lg_cmp (qwd l) 80 = 0 := fun e => by have := (m_wq hz (j := 97) (by omega) (by decide +kernel)).1 e; omega
  have w77 : ¬ lg_cmp (qwd l) 77 = 0 := fun e => by have := (m_wq hz (j := 98) (by omega) (by decide +kernel)).1 e; omega
  show zX8_isRegister (qwd l) p_σd = _
  unfold zX8_isRegister
  rw [if_neg w65, if_neg w66, if_neg w67, if_neg w68, if_neg w69, if_neg w72, if_neg w76, if_neg w73, if_neg w82, if_neg w16710, if_neg w4277799, if_neg w16963, if_neg w17477, if_neg w18508, if_neg w21328, if_neg w18776, if_neg w18777, if_neg w20058, if_neg w90, if_neg w20035, if_neg w20559, if_neg w20549, if_neg w80, if_pos w77]
theorem K_m_isSta (x : Int64) : p_K (fun τ => zX8_isStatement x τ) := by
  unfold zX8_isStatement; repeat (first | exact p_Kr _ | with_reducible apply p_Ki)
theorem m_isSta {l : List Nat} (hz : qnz l) (τ : fv_S) : zX8_isStatement (qwd l) τ = fv_ri (if qri l < 99 then (fun j => if 67 ≤ j ∧ j ≤ 74 ∧ j ≠ 68 then 1 else 0) (qri l) else 0) τ := by
  refine m_wf (f := fun x τ => zX8_isStatement x τ) (g := fun j => if 67 ≤ j ∧ j ≤ 74 ∧ j ≠ 68 then 1 else 0) K_m_isSta (by decide +kernel) (fun h => ?_) τ
  have w5198407 : ¬ lg_cmp (qwd l) 5198407 = 0 := fun e => by have := (m_wq hz (j := 67) (by omega) (by decide +kernel)).1 e; omega
  have w17474 : ¬ lg_cmp (qwd l) 17474 = 0 := fun e => by have := (m_wq hz (j := 69) (by omega) (by decide +kernel)).1 e; omega
  have w17495 : ¬ lg_cmp (qwd l) 17495 = 0 := fun e => by have := (m_wq hz (j := 70) (by omega) (by decide +kernel)).1 e; omega
  have w17491 : ¬ lg_cmp (qwd l) 17491 = 0 := fun e => by have := (m_wq hz (j := 71) (by omega) (by decide +kernel)).1 e; omega
  have w18758 : ¬ lg_cmp (qwd l) 18758 = 0 := fun e => by have := (m_wq hz (j := 72) (by omega) (by decide +kernel)).1 e; omega
  have w1162629957 : ¬ lg_cmp (qwd l) 1162629957 = 0 := fun e => by have := (m_wq hz (j := 73) (by omega) (by decide +kernel)).1 e; omega
  have w297665841478 : ¬ lg_cmp (qwd l) 297665841478 = 0 := fun e => by have := (m_wq hz (j := 74) (by omega) (by decide +kernel)).1 e; omega
  show zX8_isStatement (qwd l) p_σd = _
  unfold zX8_isStatement
  rw [if_neg w5198407, if_neg w17474, if_neg w17495, if_neg w17491, if_neg w18758, if_neg w1162629957, if_pos w297665841478]
theorem K_m_plain (x : Int64) : p_K (fun τ => zX8_plain x τ) := by
  unfold zX8_plain; repeat (first | exact p_Kr _ | with_reducible apply p_Ki)
theorem m_plain {l : List Nat} (hz : qnz l) (τ : fv_S) : zX8_plain (qwd l) τ = fv_ri (if qri l < 99 then (fun j => p_v (zX8_plain (qwd (p_nm j)) p_σd)) (qri l) else (-1)) τ := by
  refine m_wf (f := fun x τ => zX8_plain x τ) (g := fun j => p_v (zX8_plain (qwd (p_nm j)) p_σd)) K_m_plain (by decide +kernel) (fun h => ?_) τ
  have w5132112 : ¬ lg_cmp (qwd l) 5132112 = 0 := fun e => by have := (m_wq hz (j := 0) (by omega) (by decide +kernel)).1 e; omega
  have w1380729665 : ¬ lg_cmp (qwd l) 1380729665 = 0 := fun e => by have := (m_wq hz (j := 8) (by omega) (by decide +kernel)).1 e; omega
  have w1381122881 : ¬ lg_cmp (qwd l) 1381122881 = 0 := fun e => by have := (m_wq hz (j := 9) (by omega) (by decide +kernel)).1 e; omega
  have w5393473 : ¬ lg_cmp (qwd l) 5393473 = 0 := fun e => by have := (m_wq hz (j := 10) (by omega) (by decide +kernel)).1 e; omega
  have w5395009 : ¬ lg_cmp (qwd l) 5395009 = 0 := fun e => by have := (m_wq hz (j := 11) (by omega) (by decide +kernel)).1 e; omega
  have w4473153 : ¬ lg_cmp (qwd l) 4473153 = 0 := fun e => by have := (m_wq hz (j := 12) (by omega) (by decide +kernel)).1 e; omega
  have w4411468 : ¬ lg_cmp (qwd l) 4411468 = 0 := fun e => by have := (m_wq hz (j := 13) (by omega) (by decide +kernel)).1 e; omega
  have w5456710 : ¬ lg_cmp (qwd l) 5456710 = 0 := fun e => by have := (m_wq hz (j := 14) (by omega) (by decide +kernel)).1 e; omega
  have w4408134 : ¬ lg_cmp (qwd l) 4408134 = 0 := fun e => by have := (m_wq hz (j := 15) (by omega) (by decide +kernel)).1 e; omega
  have w1212238932 : ¬ lg_cmp (qwd l) 1212238932 = 0 := fun e => by have := (m_wq hz (j := 16) (by omega) (by decide +kernel)).1 e; omega
  have w4544600 : ¬ lg_cmp (qwd l) 4544600 = 0 := fun e => by have := (m_wq hz (j := 26) (by omega) (by decide +kernel)).1 e; omega
  have w17481 : ¬ lg_cmp (qwd l) 17481 = 0 := fun e => by have := (m_wq hz (j := 30) (by omega) (by decide +kernel)).1 e; omega
  have w17737 : ¬ lg_cmp (qwd l) 17737 = 0 := fun e => by have := (m_wq hz (j := 31) (by omega) (by decide +kernel)).1 e; omega
  have w5129543 : ¬ lg_cmp (qwd l) 5129543 = 0 := fun e => by have := (m_wq hz (j := 45) (by omega) (by decide +kernel)).1 e; omega
  have w1380275278 : ¬ lg_cmp (qwd l) 1380275278 = 0 := fun e => by have := (m_wq hz (j := 46) (by omega) (by decide +kernel)).1 e; omega
  have w1380275273 : ¬ lg_cmp (qwd l) 1380275273 = 0 := fun e => by have := (m_wq hz (j := 47) (by omega) (by decide +kernel)).1 e; omega
  have w5395012 : ¬ lg_cmp (qwd l) 5395012 = 0 := fun e => by have := (m_wq hz (j := 49) (by omega) (by decide +kernel)).1 e; omega
  have w5393476 : ¬ lg_cmp (qwd l) 5393476 = 0 := fun e => by have := (m_wq hz (j := 50) (by omega) (by decide +kernel)).1 e; omega
  have w4998217 : ¬ lg_cmp (qwd l) 4998217 = 0 := fun e => by have := (m_wq hz (j := 51) (by omega) (by decide +kernel)).1 e; omega
  have w4411465 : ¬ lg_cmp (qwd l) 4411465 = 0 := fun e => by have := (m_wq hz (j := 52) (by omega) (by decide +kernel)).1 e; omega
  have w4804169 : ¬ lg_cmp (qwd l) 4804169 = 0 := fun e => by have := (m_wq hz (j := 53) (by omega) (by decide +kernel)).1 e; omega
  have w1330992201 : ¬ lg_cmp (qwd l) 1330992201 = 0 := fun e => by have := (m_wq hz (j := 54) (by omega) (by decide +kernel)).1 e; omega
  have w4998212 : ¬ lg_cmp (qwd l) 4998212 = 0 := fun e => by have := (m_wq hz (j := 55) (by omega) (by decide +kernel)).1 e; omega
  have w4411460 : ¬ lg_cmp (qwd l) 4411460 = 0 := fun e => by have := (m_wq hz (j := 56) (by omega) (by decide +kernel)).1 e; omega
  have w4804164 : ¬ lg_cmp (qwd l) 4804164 = 0 := fun e => by have := (m_wq hz (j := 57) (by omega) (by decide +kernel)).1 e; omega
  have w1330992196 : ¬ lg_cmp (qwd l) 1330992196 = 0 := fun e => by have := (m_wq hz (j := 58) (by omega) (by decide +kernel)).1 e; omega
  have w1279543634 : ¬ lg_cmp (qwd l) 1279543634 = 0 := fun e => by have := (m_wq hz (j := 59) (by omega) (by decide +kernel)).1 e; omega
  have w1129335122 : ¬ lg_cmp (qwd l) 1129335122 = 0 := fun e => by have := (m_wq hz (j := 60) (by omega) (by decide +kernel)).1 e; omega
  have w1229867346 : ¬ lg_cmp (qwd l) 1229867346 = 0 := fun e => by have := (m_wq hz (j := 61) (by omega) (by decide +kernel)).1 e; omega
  have w1330923858 : ¬ lg_cmp (qwd l) 1330923858 = 0 := fun e => by have := (m_wq hz (j := 62) (by omega) (by decide +kernel)).1 e; omega
  have w1279542354 : ¬ lg_cmp (qwd l) 1279542354 = 0 := fun e => by have := (m_wq hz (j := 63) (by omega) (by decide +kernel)).1 e; omega
  have w1129333842 : ¬ lg_cmp (qwd l) 1129333842 = 0 := fun e => by have := (m_wq hz (j := 64) (by omega) (by decide +kernel)).1 e; omega
  have w1229866066 : ¬ lg_cmp (qwd l) 1229866066 = 0 := fun e => by have := (m_wq hz (j := 65) (by omega) (by decide +kernel)).1 e; omega
  have w1330922578 : ¬ lg_cmp (qwd l) 1330922578 = 0 := fun e => by have := (m_wq hz (j := 66) (by omega) (by decide +kernel)).1 e; omega
  show zX8_plain (qwd l) p_σd = _
  unfold zX8_plain
  rw [if_pos w5132112, if_pos w1380729665, if_pos w1381122881, if_pos w5393473, if_pos w5395009, if_pos w4473153, if_pos w4411468, if_pos w5456710, if_pos w4408134, if_pos w1212238932, if_pos w4544600, if_pos w17481, if_pos w17737, if_pos w5129543, if_pos w1380275278, if_pos w1380275273, if_pos w5395012, if_pos w5393476, if_pos w4998217, if_pos w4411465, if_pos w4804169, if_pos w1330992201, if_pos w4998212, if_pos w4411460, if_pos w4804164, if_pos w1330992196, if_pos w1279543634, if_pos w1129335122, if_pos w1229867346, if_pos w1330923858, if_pos w1279542354, if_pos w1129333842, if_pos w1229866066, if_pos w1330922578]
theorem K_m_isMan (x : Int64) : p_K (fun τ => zX8_isMany x τ) := by
  unfold zX8_isMany; repeat (first | exact p_Kr _ | with_reducible apply p_Ki)
theorem m_isMan {l : List Nat} (hz : qnz l) (τ : fv_S) : zX8_isMany (qwd l) τ = fv_ri (if qri l < 99 then (fun j => p_v (zX8_isMany (qwd (p_nm j)) p_σd)) (qri l) else 0) τ := by
  refine m_wf (f := fun x τ => zX8_isMany x τ) (g := fun j => p_v (zX8_isMany (qwd (p_nm j)) p_σd)) K_m_isMan (by decide +kernel) (fun h => ?_) τ
  have w17752 : ¬ lg_cmp (qwd l) 17752 = 0 := fun e => by have := (m_wq hz (j := 1) (by omega) (by decide +kernel)).1 e; omega
  have w1145720410 : ¬ lg_cmp (qwd l) 1145720410 = 0 := fun e => by have := (m_wq hz (j := 2) (by omega) (by decide +kernel)).1 e; omega
  have w19026 : ¬ lg_cmp (qwd l) 19026 = 0 := fun e => by have := (m_wq hz (j := 3) (by omega) (by decide +kernel)).1 e; omega
  have w19524 : ¬ lg_cmp (qwd l) 19524 = 0 := fun e => by have := (m_wq hz (j := 4) (by omega) (by decide +kernel)).1 e; omega
  have w4804163 : ¬ lg_cmp (qwd l) 4804163 = 0 := fun e => by have := (m_wq hz (j := 6) (by omega) (by decide +kernel)).1 e; omega
  have w4474179 : ¬ lg_cmp (qwd l) 4474179 = 0 := fun e => by have := (m_wq hz (j := 7) (by omega) (by decide +kernel)).1 e; omega
  have w4277316 : ¬ lg_cmp (qwd l) 4277316 = 0 := fun e => by have := (m_wq hz (j := 5) (by omega) (by decide +kernel)).1 e; omega
  have w4277315 : ¬ lg_cmp (qwd l) 4277315 = 0 := fun e => by have := (m_wq hz (j := 17) (by omega) (by decide +kernel)).1 e; omega
  have w5461314 : ¬ lg_cmp (qwd l) 5461314 = 0 := fun e => by have := (m_wq hz (j := 18) (by omega) (by decide +kernel)).1 e; omega
  have w5456451 : ¬ lg_cmp (qwd l) 5456451 = 0 := fun e => by have := (m_wq hz (j := 19) (by omega) (by decide +kernel)).1 e; omega
  have w4279876 : ¬ lg_cmp (qwd l) 4279876 = 0 := fun e => by have := (m_wq hz (j := 20) (by omega) (by decide +kernel)).1 e; omega
  have w5787474 : ¬ lg_cmp (qwd l) 5787474 = 0 := fun e => by have := (m_wq hz (j := 21) (by omega) (by decide +kernel)).1 e; omega
  have w20306 : ¬ lg_cmp (qwd l) 20306 = 0 := fun e => by have := (m_wq hz (j := 22) (by omega) (by decide +kernel)).1 e; omega
  have w17232 : ¬ lg_cmp (qwd l) 17232 = 0 := fun e => by have := (m_wq hz (j := 23) (by omega) (by decide +kernel)).1 e; omega
  have w5391700 : ¬ lg_cmp (qwd l) 5391700 = 0 := fun e => by have := (m_wq hz (j := 24) (by omega) (by decide +kernel)).1 e; omega
  have w5263184 : ¬ lg_cmp (qwd l) 5263184 = 0 := fun e => by have := (m_wq hz (j := 25) (by omega) (by decide +kernel)).1 e; omega
  have w1347769160 : ¬ lg_cmp (qwd l) 1347769160 = 0 := fun e => by have := (m_wq hz (j := 33) (by omega) (by decide +kernel)).1 e; omega
  have w19024 : ¬ lg_cmp (qwd l) 19024 = 0 := fun e => by have := (m_wq hz (j := 27) (by omega) (by decide +kernel)).1 e; omega
  have w1128352844 : ¬ lg_cmp (qwd l) 1128352844 = 0 := fun e => by have := (m_wq hz (j := 32) (by omega) (by decide +kernel)).1 e; omega
  have w5395284 : ¬ lg_cmp (qwd l) 5395284 = 0 := fun e => by have := (m_wq hz (j := 34) (by omega) (by decide +kernel)).1 e; omega
  have w5199188 : ¬ lg_cmp (qwd l) 5199188 = 0 := fun e => by have := (m_wq hz (j := 28) (by omega) (by decide +kernel)).1 e; omega
  have w18766 : ¬ lg_cmp (qwd l) 18766 = 0 := fun e => by have := (m_wq hz (j := 29) (by omega) (by decide +kernel)).1 e; omega
  have w5393475 : ¬ lg_cmp (qwd l) 5393475 = 0 := fun e => by have := (m_wq hz (j := 35) (by omega) (by decide +kernel)).1 e; omega
  have w5395011 : ¬ lg_cmp (qwd l) 5395011 = 0 := fun e => by have := (m_wq hz (j := 36) (by omega) (by decide +kernel)).1 e; omega
  have w21068 : ¬ lg_cmp (qwd l) 21068 = 0 := fun e => by have := (m_wq hz (j := 37) (by omega) (by decide +kernel)).1 e; omega
  have w21074 : ¬ lg_cmp (qwd l) 21074 = 0 := fun e => by have := (m_wq hz (j := 38) (by omega) (by decide +kernel)).1 e; omega
  have w5459009 : ¬ lg_cmp (qwd l) 5459009 = 0 := fun e => by have := (m_wq hz (j := 39) (by omega) (by decide +kernel)).1 e; omega
  have w5460545 : ¬ lg_cmp (qwd l) 5460545 = 0 := fun e => by have := (m_wq hz (j := 40) (by omega) (by decide +kernel)).1 e; omega
  have w5460556 : ¬ lg_cmp (qwd l) 5460556 = 0 := fun e => by have := (m_wq hz (j := 41) (by omega) (by decide +kernel)).1 e; omega
  have w4344148 : ¬ lg_cmp (qwd l) 4344148 = 0 := fun e => by have := (m_wq hz (j := 42) (by omega) (by decide +kernel)).1 e; omega
  have w5391699 : ¬ lg_cmp (qwd l) 5391699 = 0 := fun e => by have := (m_wq hz (j := 43) (by omega) (by decide +kernel)).1 e; omega
  have w5457236 : ¬ lg_cmp (qwd l) 5457236 = 0 := fun e => by have := (m_wq hz (j := 44) (by omega) (by decide +kernel)).1 e; omega
  have w18765 : ¬ lg_cmp (qwd l) 18765 = 0 := fun e => by have := (m_wq hz (j := 48) (by omega) (by decide +kernel)).1 e; omega
  show zX8_isMany (qwd l) p_σd = _
  unfold zX8_isMany
  rw [if_neg w17752, if_neg w1145720410, if_neg w19026, if_neg w19524, if_neg w4804163, if_neg w4474179, if_neg w4277316, if_neg w4277315, if_neg w5461314, if_neg w5456451, if_neg w4279876, if_neg w5787474, if_neg w20306, if_neg w17232, if_neg w5391700, if_neg w5263184, if_neg w1347769160, if_neg w19024, if_neg w1128352844, if_neg w5395284, if_neg w5199188, if_neg w18766, if_neg w5393475, if_neg w5395011, if_neg w21068, if_neg w21074, if_neg w5459009, if_neg w5460545, if_neg w5460556, if_neg w4344148, if_neg w5391699, if_neg w5457236, if_pos w18765]
theorem K_m_index (x : Int64) : p_K (fun τ => zX8_index x τ) := by
  unfold zX8_index; repeat (first | exact p_Kr _ | with_reducible apply p_Ki)
theorem m_index {l : List Nat} (hz : qnz l) (τ : fv_S) : zX8_index (qwd l) τ = fv_ri (if qri l < 99 then (fun j => if j = 90 then 1 else if j = 91 then 2 else -1) (qri l) else (-1)) τ := by
  refine m_wf (f := fun x τ => zX8_index x τ) (g := fun j => if j = 90 then 1 else if j = 91 then 2 else -1) K_m_index (by decide +kernel) (fun h => ?_) τ
  have w18776 : ¬ lg_cmp (qwd l) 18776 = 0 := fun e => by have := (m_wq hz (j := 90) (by omega) (by decide +kernel)).1 e; omega
  have w18777 : ¬ lg_cmp (qwd l) 18777 = 0 := fun e => by have := (m_wq hz (j := 91) (by omega) (by decide +kernel)).1 e; omega
  show zX8_index (qwd l) p_σd = _
  unfold zX8_index
  rw [if_pos w18776, if_pos w18777]
theorem m_isRes {l : List Nat} (hz : qnz l) (τ : fv_S) : zX8_isReserved (qwd l) τ = fv_ri (q01 (decide (qri l < 99))) τ := by
  unfold zX8_isReserved
  rw [m_isReg hz, fv_bi_ri]
  by_cases c : qri l < 99
  · rw [if_pos c, decide_eq_true c]
    have k : ∀ j, j < 99 → (if ¬ (if 75 ≤ j then (1 : Int32) else 0) = 0 then True else if ¬ (if 67 ≤ j ∧ j ≤ 74 ∧ j ≠ 68 then (1 : Int32) else 0) = 0 then True else if (0 : Int32) ≤ p_v (zX8_plain (qwd (p_nm j)) p_σd) then True else if ¬ p_v (zX8_isMany (qwd (p_nm j)) p_σd) = 0 then True else j = 68) := by decide +kernel
    have kk := k _ c
    by_cases c1 : (if 75 ≤ qri l then (1 : Int32) else 0) = 0
    · rw [if_neg (not_not_intro c1)] at kk ⊢
      rw [m_isSta hz, fv_bi_ri, if_pos c]
      by_cases c2 : (if 67 ≤ qri l ∧ qri l ≤ 74 ∧ qri l ≠ 68 then (1 : Int32) else 0) = 0
      · rw [if_neg (not_not_intro c2)] at kk ⊢
        rw [m_plain hz, fv_bi_ri, if_pos c]
        by_cases c3 : (0 : Int32) ≤ p_v (zX8_plain (qwd (p_nm (qri l))) p_σd)
        · rw [if_pos c3]; rfl
        · rw [if_neg c3] at kk ⊢
          rw [m_isMan hz, fv_bi_ri, if_pos c]
          by_cases c4 : p_v (zX8_isMany (qwd (p_nm (qri l))) p_σd) = 0
          · rw [if_neg (not_not_intro c4)] at kk ⊢
            rw [if_neg (not_not_intro ((m_wq hz (j := 68) (by omega) (by decide +kernel)).2 kk))]; rfl
          · rw [if_pos c4]; rfl
      · rw [if_pos c2]; rfl
    · rw [if_pos c1]; rfl
  · rw [if_neg c, decide_eq_false c, if_neg (by decide), m_isSta hz, fv_bi_ri, if_neg c, if_neg (by decide), m_plain hz, fv_bi_ri, if_neg c, if_neg (by decide), m_isMan hz, fv_bi_ri, if_neg c, if_neg (by decide), if_pos (fun e => by have := (m_wq hz (j := 68) (by omega) (by decide +kernel)).1 e; omega)]; rfl
/-- a word of an instruction -/
theorem k_ins : ∀ j, j < 99 → ((0 : Int32) ≤ p_v (zX8_plain (qwd (p_nm j)) p_σd) ∨ ¬ p_v (zX8_isMany (qwd (p_nm j)) p_σd) = 0 ↔ j < 67) := by decide +kernel
/-- the signs of a name that is read -/
theorem qna_nz {B : Nat → Nat} {n p : Nat} (hS : qS B n) (h : (qT B n p).1 = 1) : qnz (qna B (qT B n p)) ∧ qna B (qT B n p) ≠ [] := by
  unfold qna
  have e := qTq_n (show (qTq B n (qrun (fun i => qbl (B i)) n p)).1 = 1 from h)
  have hs := ((qTq_1 B n _).1 (show (qTq B n (qrun (fun i => qbl (B i)) n p)).1 = 1 from h)).1
  unfold qT
  rw [e]
  generalize qrun (fun i => qbl (B i)) n p = q at hs ⊢
  have hq : q < n := by
    apply Decidable.byContradiction; intro c; rw [hS.2.2 q (by omega)] at hs; exact absurd hs (by decide)
  have hk : q < qrun (fun i => qnp (B i)) n q := by
    rw [qrun_s (P := fun i => qnp (B i)) hq (by show qnp (B q) = true; unfold qnp; rw [hs]; rfl)]
    have := (qrun_le (fun i => qnp (B i)) n (q + 1)).1; omega
  have hin : ∀ i, q ≤ i → i < qrun (fun i => qnp (B i)) n q → 1 ≤ B i := fun i h1 h2 => by have := qnp_1 (qrun_in (P := fun i => qnp (B i)) h1 h2); omega
  generalize qrun (fun i => qnp (B i)) n q = k at hk hin ⊢
  show qnz (qnm B q ((if qnm B q (k - q) = [65, 70] ∧ B k = 39 then k + 1 else k) - q)) ∧ qnm B q ((if qnm B q (k - q) = [65, 70] ∧ B k = 39 then k + 1 else k) - q) ≠ []
  by_cases c : qnm B q (k - q) = [65, 70] ∧ B k = 39
  · rw [if_pos c]
    refine ⟨qnm_nz hS.2.1 _ _ (fun i h1 h2 => ?_), fun e => by have := congrArg List.length e; rw [qnm_len] at this; simp at this; omega⟩
    by_cases c2 : i = k
    · rw [c2, c.2]; omega
    · exact hin i h1 (by omega)
  · rw [if_neg c]
    exact ⟨qnm_nz hS.2.1 _ _ (fun i h1 h2 => hin i h1 (by omega)), fun e => by have := congrArg List.length e; rw [qnm_len] at this; simp at this; omega⟩
