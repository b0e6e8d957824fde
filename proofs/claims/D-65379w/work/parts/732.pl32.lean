set_option maxRecDepth 100000
set_option maxHeartbeats 4000000
/-! The plain law: what the model writes at an address. -/
def p_t03 (i x y z : Int32) : List Nat := if ¬ x = 0 then (if ¬ x = (1 : Int32) then (if ¬ x = (2 : Int32) then p_say 1397052448 ++ (p_dN y.toNatClampNeg ++ ([44] ++ p_tOc i z)) else p_say 1380274976 ++ (p_dN y.toNatClampNeg ++ ([44] ++ p_tOc i z))) else p_say 1112101920 ++ (p_dN y.toNatClampNeg ++ ([44] ++ p_tOc i z))) else (if ¬ y = 0 then (if ¬ y = (1 : Int32) then (if ¬ y = (2 : Int32) then (if ¬ y = (3 : Int32) then (if ¬ y = (4 : Int32) then (if ¬ y = (5 : Int32) then p_say 1397902368 ++ p_tOc i z else p_say 1397899552 ++ p_tOc i z) else p_say 1397506336 ++ p_tOc i z) else p_say 5394976 ++ p_tOc i z) else p_say 5393440 ++ p_tOc i z) else p_say 1381122848 ++ p_tOc i z) else p_say 1380729632 ++ p_tOc i z)
def p_tM (k i op : Int32) : List Nat :=
  if ¬ k = (1 : Int32) then (if ¬ k = (2 : Int32) then (if ¬ (op >>> (6 : Int32)) = 0 then (if ¬ (op >>> (6 : Int32)) = (3 : Int32) then (if ¬ op = (118 : Int32) then (if ¬ (op >>> (6 : Int32)) = (1 : Int32) then p_tSu (p_yy op) ++ p_tOc i (p_zz op) else p_say 4998176 ++ (p_tOc i (p_yy op) ++ ([44] ++ p_tOc i (p_zz op)))) else p_say 1212238932) else p_tLa i (p_yy op) (p_zz op) (p_yy op >>> (1 : Int32)) (p_yy op &&& 1)) else p_tFi i (p_yy op) (p_zz op) (p_yy op >>> (1 : Int32)) (p_yy op &&& 1)) else p_t37 i (op >>> (6 : Int32)) (p_yy op) (p_zz op) (p_yy op >>> (1 : Int32)) (p_yy op &&& 1)) else p_t03 i (op >>> (6 : Int32)) (p_yy op) (p_zz op)
theorem u_03 {σ0 : fv_S} {E : Nat → List Nat} {a i : Int32} (n : Nat) (h : pEm σ0 E a i) {op : Int32} (hop : fv_gi σ0 61 = op) : pU σ0 E (fun σ => zX8_write203 (n + 10) σ) (p_t03 i (op >>> (6 : Int32)) (p_yy op) (p_zz op)) := by
  have hy : p_y8 (p_yy op) := p_and7 _
  have hn : p_yy op = Int32.ofNat (p_yy op).toNatClampNeg ∧ (p_yy op).toNatClampNeg < 65536 := by
    generalize p_yy op = y at hy
    rcases hy with rfl | rfl | rfl | rfl | rfl | rfl | rfl | rfl <;> decide
  have k137 : pU σ0 E (fun σ => zX8_write203_137 (n + 10) σ) (p_tOc i (p_zz op)) := by
    refine u_c (g := fun σ => fv_bv (zX8_octetName (n + 10) (p_zz op) σ) (fun σ1 => fv_rv σ1) fv_no) (fun σ s => ?_) (u_w (u_oc n h _))
    unfold zX8_write203_137; rw [s.1 61 (by omega), hop]; rfl
  have k91 : ∀ c, p_asc (p_say c) = true → pU σ0 E (fun σ => zX8_write203_91 (n + 10) c σ) (p_say c ++ p_tOc i (p_zz op)) := by
    intro c hc
    unfold zX8_write203_91
    exact u_b (u_say σ0 E n c hc) k137
  have k123 : ∀ c, p_asc (p_say c) = true → pU σ0 E (fun σ => zX8_write203_123 (n + 10) (p_yy op) c σ) (p_say c ++ (p_dN (p_yy op).toNatClampNeg ++ ([44] ++ p_tOc i (p_zz op)))) := by
    intro c hc
    unfold zX8_write203_123
    exact u_b (u_say σ0 E n c hc) (u_b (u_num σ0 E n hn.1 hn.2) (u_b (u_one σ0 E 44 (by decide)) k137))
  refine u_c (g := fun σ => if ¬ (op >>> (6 : Int32)) = 0 then (if ¬ (op >>> (6 : Int32)) = (1 : Int32) then (if ¬ (op >>> (6 : Int32)) = (2 : Int32) then zX8_write203_123 (n + 10) (p_yy op) 1397052448 σ else zX8_write203_123 (n + 10) (p_yy op) 1380274976 σ) else zX8_write203_123 (n + 10) (p_yy op) 1112101920 σ) else (if ¬ (p_yy op) = 0 then (if ¬ (p_yy op) = (1 : Int32) then (if ¬ (p_yy op) = (2 : Int32) then (if ¬ (p_yy op) = (3 : Int32) then (if ¬ (p_yy op) = (4 : Int32) then (if ¬ (p_yy op) = (5 : Int32) then zX8_write203_91 (n + 10) 1397902368 σ else zX8_write203_91 (n + 10) 1397899552 σ) else zX8_write203_91 (n + 10) 1397506336 σ) else zX8_write203_91 (n + 10) 5394976 σ) else zX8_write203_91 (n + 10) 5393440 σ) else zX8_write203_91 (n + 10) 1381122848 σ) else zX8_write203_91 (n + 10) 1380729632 σ)) (fun σ s => ?_) ?_
  · unfold zX8_write203; rw [s.1 61 (by omega), hop]; rfl
  · unfold p_t03
    refine u_i (u_i (u_i (k123 _ (by decide)) (k123 _ (by decide))) (k123 _ (by decide))) ?_
    repeat (first | with_reducible apply u_i | exact k91 _ (by decide))
/-- the whole of it, behind the decoding -/
theorem u_at {σ0 : fv_S} {E : Nat → List Nat} {a i : Int32} (n : Nat) (h : pEm σ0 E a i) {op k : Int32} (hop : fv_gi σ0 61 = op) (hk : fv_gi σ0 59 = k) : pU σ0 E (fun σ1 => if ¬ (fv_gi σ1 59) = (1 : Int32) then (if ¬ (fv_gi σ1 59) = (2 : Int32) then (if ¬ ((fv_gi σ1 61) >>> (6 : Int32)) = 0 then (if ¬ ((fv_gi σ1 61) >>> (6 : Int32)) = (3 : Int32) then (if ¬ (fv_gi σ1 61) = (118 : Int32) then (if ¬ ((fv_gi σ1 61) >>> (6 : Int32)) = (1 : Int32) then
     fv_bv (zX8_sumName (n + 10) (((fv_gi σ1 61) >>> (3 : Int32)) &&& (7 : Int32)) σ1) (fun σ3 => zX8_octetName (n + 10) ((fv_gi σ3 61) &&& (7 : Int32)) σ3) fv_no
     else fv_bv (zX8_say (n + 10) 4998176 σ1) (fun σ5 => fv_bv (zX8_octetName (n + 10) (((fv_gi σ5 61) >>> (3 : Int32)) &&& (7 : Int32)) σ5) (fun σ6 => fv_bv (zX8_one 44 σ6) (fun σ7 => zX8_octetName (n + 10) ((fv_gi σ7 61) &&& (7 : Int32)) σ7) fv_no) fv_no) fv_no)
     else zX8_say (n + 10) 1212238932 σ1) else zX8_writeLast (n + 10) σ1) else zX8_writeFirst (n + 10) a σ1) else zX8_write237 (n + 10) σ1) else zX8_write203 (n + 10) σ1) (p_tM k i op) := by
  have oz : pU σ0 E (fun σ => zX8_octetName (n + 10) ((fv_gi σ 61) &&& (7 : Int32)) σ) (p_tOc i (p_zz op)) :=
    u_c (g := fun σ => zX8_octetName (n + 10) (p_zz op) σ) (fun σ s => by rw [s.1 61 (by omega), hop]; rfl) (u_oc n h _)
  have oy : pU σ0 E (fun σ => zX8_octetName (n + 10) (((fv_gi σ 61) >>> (3 : Int32)) &&& (7 : Int32)) σ) (p_tOc i (p_yy op)) :=
    u_c (g := fun σ => zX8_octetName (n + 10) (p_yy op) σ) (fun σ s => by rw [s.1 61 (by omega), hop]; rfl) (u_oc n h _)
  have la : pU σ0 E (fun σ => zX8_writeLast (n + 10) σ) (p_tLa i (p_yy op) (p_zz op) (p_yy op >>> (1 : Int32)) (p_yy op &&& 1)) := by
    refine u_c (g := fun σ => zX8_writeLast_34 (n + 10) (p_yy op) (p_zz op) (p_yy op >>> (1 : Int32)) (p_yy op &&& 1) σ) (fun σ s => ?_) (u_la n h (p_and7 _) _ _ _)
    unfold zX8_writeLast
    rw [s.1 61 (by omega), hop]
    show (if ¬ (p_yy op &&& 1) = 1 then zX8_writeLast_34 (n + 10) (p_yy op) (p_zz op) (p_yy op >>> (1 : Int32)) 0 σ else zX8_writeLast_34 (n + 10) (p_yy op) (p_zz op) (p_yy op >>> (1 : Int32)) 1 σ) = _
    rcases p_bit1 (p_yy op) with e | e <;> rw [e]
    · rw [if_pos (by decide)]
    · rw [if_neg (by decide)]
  have fi : pU σ0 E (fun σ => zX8_writeFirst (n + 10) a σ) (p_tFi i (p_yy op) (p_zz op) (p_yy op >>> (1 : Int32)) (p_yy op &&& 1)) := by
    refine u_c (g := fun σ => zX8_writeFirst_35 (n + 10) a (p_yy op) (p_zz op) (p_yy op >>> (1 : Int32)) (p_yy op &&& 1) σ) (fun σ s => ?_) (u_fi n h _ _ _ _)
    unfold zX8_writeFirst
    rw [s.1 61 (by omega), hop]
    show (if ¬ (p_yy op &&& 1) = 1 then zX8_writeFirst_35 (n + 10) a (p_yy op) (p_zz op) (p_yy op >>> (1 : Int32)) 0 σ else zX8_writeFirst_35 (n + 10) a (p_yy op) (p_zz op) (p_yy op >>> (1 : Int32)) 1 σ) = _
    rcases p_bit1 (p_yy op) with e | e <;> rw [e]
    · rw [if_pos (by decide)]
    · rw [if_neg (by decide)]
  have t7 : pU σ0 E (fun σ => zX8_write237 (n + 10) σ) (p_t37 i (op >>> (6 : Int32)) (p_yy op) (p_zz op) (p_yy op >>> (1 : Int32)) (p_yy op &&& 1)) := by
    have k := u_37 n h (y := p_yy op) (p_and7 _) (p_zz op) (p_yy op >>> (1 : Int32)) (p_yy op &&& 1)
    rw [hop] at k
    refine u_c (g := fun σ => zX8_write237_34 (n + 10) (p_yy op) (p_zz op) (p_yy op >>> (1 : Int32)) (p_yy op &&& 1) σ) (fun σ s => ?_) k
    unfold zX8_write237
    rw [s.1 61 (by omega), hop]
    show (if ¬ (p_yy op &&& 1) = 1 then zX8_write237_34 (n + 10) (p_yy op) (p_zz op) (p_yy op >>> (1 : Int32)) 0 σ else zX8_write237_34 (n + 10) (p_yy op) (p_zz op) (p_yy op >>> (1 : Int32)) 1 σ) = _
    rcases p_bit1 (p_yy op) with e | e <;> rw [e]
    · rw [if_pos (by decide)]
    · rw [if_neg (by decide)]
  have su : pU σ0 E (fun σ => zX8_sumName (n + 10) (((fv_gi σ 61) >>> (3 : Int32)) &&& (7 : Int32)) σ) (p_tSu (p_yy op)) :=
    u_c (g := fun σ => zX8_sumName (n + 10) (p_yy op) σ) (fun σ s => by rw [s.1 61 (by omega), hop]; rfl) (u_su σ0 E n _)
  refine u_c (g := fun σ1 => if ¬ k = (1 : Int32) then (if ¬ k = (2 : Int32) then (if ¬ (op >>> (6 : Int32)) = 0 then (if ¬ (op >>> (6 : Int32)) = (3 : Int32) then (if ¬ op = (118 : Int32) then (if ¬ (op >>> (6 : Int32)) = (1 : Int32) then
     fv_bv (zX8_sumName (n + 10) (((fv_gi σ1 61) >>> (3 : Int32)) &&& (7 : Int32)) σ1) (fun σ3 => zX8_octetName (n + 10) ((fv_gi σ3 61) &&& (7 : Int32)) σ3) fv_no
     else fv_bv (zX8_say (n + 10) 4998176 σ1) (fun σ5 => fv_bv (zX8_octetName (n + 10) (((fv_gi σ5 61) >>> (3 : Int32)) &&& (7 : Int32)) σ5) (fun σ6 => fv_bv (zX8_one 44 σ6) (fun σ7 => zX8_octetName (n + 10) ((fv_gi σ7 61) &&& (7 : Int32)) σ7) fv_no) fv_no) fv_no)
     else zX8_say (n + 10) 1212238932 σ1) else zX8_writeLast (n + 10) σ1) else zX8_writeFirst (n + 10) a σ1) else zX8_write237 (n + 10) σ1) else zX8_write203 (n + 10) σ1) (fun σ s => ?_) ?_
  · rw [s.1 59 (by omega), s.1 61 (by omega), hop, hk]
  · unfold p_tM
    exact u_i (u_i (u_i (u_i (u_i (u_i (u_b su oz) (u_b (u_say σ0 E n _ (by decide)) (u_b oy (u_b (u_one σ0 E 44 (by decide)) oz)))) (u_say σ0 E n _ (by decide))) la) fi) t7) (u_03 n h hop)
