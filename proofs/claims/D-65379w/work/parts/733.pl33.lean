set_option maxRecDepth 100000
set_option maxHeartbeats 4000000
/-! The plain law: what the class writes: strings, names, operands. -/
def p_ch (s i : Nat) : Nat := ((fxStr.getD s []).getD i 0).toNatClampNeg
def p_nm (s : Nat) : List Nat := (List.range (fv_sl0 s)).map (p_ch s)
def p_cv8 (s i : Nat) : Int32 := ((Int32.toUInt32 ((fv_sch s (Int32.ofNat i)) &&& (255 : Int32))) % 65536).toInt32
theorem k_len : ∀ s, s < 102 → fv_sl0 s ≤ 13 := by decide +kernel
theorem k_ch : ∀ s, s < 102 → ∀ i, i < 13 → i < fv_sl0 s → p_cv8 s i = Int32.ofNat (p_ch s i) ∧ vp_nar .char (p_cv8 s i) = p_cv8 s i ∧ p_ch s i < 128 := by decide +kernel
theorem x_len (s : Nat) (hs : s < 102) (σ : fv_S) : zJ4_length s σ = fv_ri (Int32.ofNat (fv_sl0 s)) σ := by
  unfold zJ4_length zJ4_coder
  rw [if_pos hs, if_pos hs, if_pos hs, if_neg (by decide), if_pos hs, fv_bi_ri]
  have : ∀ s, s < 102 → fv_sln s >>> ((0 : Int32) &&& (31 : Int32)) = Int32.ofNat (fv_sl0 s) := by decide +kernel
  rw [this s hs]
theorem x_chr (s i : Nat) (hs : s < 102) (hi : i < fv_sl0 s) (σ : fv_S) : zJ4_charAt s (Int32.ofNat i) σ = fv_ri (Int32.ofNat (p_ch s i)) σ := by
  have l := k_len s hs
  obtain ⟨c1, c2, c3⟩ := k_ch s hs i (by omega) hi
  have hck : zJ4_checkIndex (Int32.ofNat i) (fv_sln s) σ = fv_rv σ := by
    unfold zJ4_checkIndex zJ7_checkIndex
    rw [if_neg (show ¬ Int32.ofNat i < 0 by rw [p_lt, p_ofn i (by omega)]; show ¬ (i : Int) < 0; omega)]
    rw [if_pos (show Int32.ofNat i < fv_sln s from (p_ltN i (fv_sl0 s) (by omega) (by omega)).2 hi), fv_bi_ri]
  obtain ⟨i1, _⟩ := p_inN i (fv_sl0 s) hi (by omega)
  unfold zJ4_charAt zJ4_isLatin1 zJ5_charAt
  rw [if_pos hs, if_neg (by decide), if_pos hs, if_neg (by decide), fv_bi_ri, if_neg (by decide), if_pos hs, if_pos hs, hck, fv_bv_rv, if_pos ⟨hs, i1⟩]
  show fv_bi (if vp_nar .char (p_cv8 s i) = p_cv8 s i then fv_ri (p_cv8 s i) σ else none) _ _ = _
  rw [if_pos c2, fv_bi_ri, if_pos c2, c1]
noncomputable def p_xR (v : Nat) : Nat := (p_v (zX6_register (Int32.ofNat v) p_σd)).toNatClampNeg
noncomputable def p_xP (v : Nat) : Nat := (p_v (zX6_pair (Int32.ofNat v) p_σd)).toNatClampNeg
noncomputable def p_xC (v : Nat) : Nat := (p_v (zX6_condition (Int32.ofNat v) p_σd)).toNatClampNeg
noncomputable def p_xA (v : Nat) : Nat := (p_v (zX6_atName (Int32.ofNat v) p_σd)).toNatClampNeg
theorem k_nm : ∀ v, v < 8 → (p_v (zX6_register (Int32.ofNat v) p_σd) = Int32.ofNat (p_xR v) ∧ p_xR v < 99) ∧ (p_v (zX6_pair (Int32.ofNat v) p_σd) = Int32.ofNat (p_xP v) ∧ p_xP v < 99) ∧ (p_v (zX6_condition (Int32.ofNat v) p_σd) = Int32.ofNat (p_xC v) ∧ p_xC v < 99) ∧ (p_v (zX6_atName (Int32.ofNat v) p_σd) = Int32.ofNat (p_xA v) ∧ p_xA v < 99) := by decide +kernel
theorem x_reg {v : Nat} (hv : v < 8) (σ : fv_S) : zX6_register (Int32.ofNat v) σ = fv_ri (Int32.ofNat (p_xR v)) σ := by
  rw [← (k_nm v hv).1.1]
  refine p_Kv (f := fun σ => zX6_register (Int32.ofNat v) σ) ?_ σ
  unfold zX6_register
  repeat (first | exact p_Kr _ | apply p_Ki)
theorem x_par {v : Nat} (hv : v < 8) (σ : fv_S) : zX6_pair (Int32.ofNat v) σ = fv_ri (Int32.ofNat (p_xP v)) σ := by
  rw [← (k_nm v hv).2.1.1]
  refine p_Kv (f := fun σ => zX6_pair (Int32.ofNat v) σ) ?_ σ
  unfold zX6_pair
  repeat (first | exact p_Kr _ | apply p_Ki)
theorem x_cnd {v : Nat} (hv : v < 8) (σ : fv_S) : zX6_condition (Int32.ofNat v) σ = fv_ri (Int32.ofNat (p_xC v)) σ := by
  rw [← (k_nm v hv).2.2.1.1]
  refine p_Kv (f := fun σ => zX6_condition (Int32.ofNat v) σ) ?_ σ
  unfold zX6_condition
  repeat (first | exact p_Kr _ | apply p_Ki)
theorem x_atn {v : Nat} (hv : v < 8) (σ : fv_S) : zX6_atName (Int32.ofNat v) σ = fv_ri (Int32.ofNat (p_xA v)) σ := by
  rw [← (k_nm v hv).2.2.2.1]
  refine p_Kv (f := fun σ => zX6_atName (Int32.ofNat v) σ) ?_ σ
  unfold zX6_atName
  repeat (first | exact p_Kr _ | apply p_Ki)
noncomputable def p_xO (ka va : Nat) : List Nat :=
  if ka = 1 then (if va = 6 then [40] ++ (p_nm 88 ++ [41]) else p_nm (p_xR va)) else if ka = 2 then p_nm (p_xP va) else if ka = 3 then p_nm (p_xC va) else if ka = 4 then [1001] else if ka = 5 then [1000] else if ka = 6 then [1002]
  else if ka = 7 then [40] ++ ([1000] ++ [41]) else if ka = 8 then [40] ++ ([1001] ++ [41]) else if ka = 9 then [40] ++ (p_nm (p_xA va) ++ [41]) else if ka = 10 then [40] ++ (p_nm (90 + va) ++ ([1003] ++ [41])) else if ka = 14 then p_nm (82 + va) else p_dN va
def p_xk (ka va : Nat) : Prop := ka < 15 ∧ (ka = 1 ∨ ka = 2 ∨ ka = 3 ∨ ka = 9 → va < 8) ∧ (ka = 10 ∨ ka = 14 → va < 8) ∧ va < 256
def pVx (σ0 : fv_S) (E : Nat → List Nat) (f : fv_S → Option fv_O) (t : List Nat) : Prop := pTx σ0 f (p_ren E t)
theorem vx_b {σ0 : fv_S} {E : Nat → List Nat} {f g : fv_S → Option fv_O} {t u : List Nat} (hf : pVx σ0 E f t) (hg : pVx σ0 E g u) : pVx σ0 E (fun σ => fv_bv (f σ) (fun σ1 => g σ1) fv_no) (t ++ u) := by
  unfold pVx at *; rw [p_ren_app]; exact tx_b hf hg
theorem vx_w {σ0 : fv_S} {E : Nat → List Nat} {f : fv_S → Option fv_O} {t : List Nat} (hf : pVx σ0 E f t) : pVx σ0 E (fun σ => fv_bv (f σ) (fun σ1 => fv_rv σ1) fv_no) t := tx_w hf
theorem vx_lit {σ0 : fv_S} {E : Nat → List Nat} {f : fv_S → Option fv_O} {t : List Nat} (h : pTx σ0 f t) (ha : ∀ c, c ∈ t → c < 128) : pVx σ0 E f t := by
  unfold pVx
  rw [p_ren_lit E t (fun c hc => by have := ha c hc; omega)]; exact h
theorem vx_one (σ0 : fv_S) (E : Nat → List Nat) (c : Nat) (hc : c < 128) : pVx σ0 E (fun σ => zX6_put_30 (Int32.ofNat c) σ) [c] := vx_lit (tx_one σ0 c hc) (by intro d hd; simp at hd; omega)
theorem vx_num (σ0 : fv_S) (E : Nat → List Nat) (n : Nat) {v : Int32} {k : Nat} (e : v = Int32.ofNat k) (hk : k < 65536) : pVx σ0 E (fun σ => zX6_putNumber_30 (n + 20) v σ) (p_dN k) := by
  subst e
  exact vx_lit (tx_num σ0 (n + 20) k (by omega) hk) (fun c hc => p_dlb k _ c hc)
theorem vx_num0 (σ0 : fv_S) (E : Nat → List Nat) (n : Nat) {v : Int32} {k j : Nat} (e : v = Int32.ofNat k) (hk : k < 65536) (hE : E j = p_dN k) : pVx σ0 E (fun σ => zX6_putNumber_30 (n + 20) v σ) [1000 + j] := by
  unfold pVx
  have : p_ren E [1000 + j] = p_dN k := by
    show (if 1000 + j < 1000 then [1000 + j] else E (1000 + j - 1000)) ++ [] = _
    rw [if_neg (by omega), List.append_nil, Nat.add_sub_cancel_left, hE]
  rw [this]
  subst e
  exact tx_num σ0 (n + 20) k (by omega) hk
theorem tx_tx (σ0 : fv_S) (N s : Nat) (hs : s < 102) : ∀ (d j m : Nat), fv_sl0 s - j = d → j ≤ fv_sl0 s → d + 1 ≤ m → pTx σ0 (fun σ => zX6_putText_30_2 N m s (Int32.ofNat j) σ) ((p_nm s).drop j) := by
  have l := k_len s hs
  have nl : (p_nm s).length = fv_sl0 s := by unfold p_nm; simp
  intro d
  induction d with
  | zero =>
    intro j m e hj hm
    obtain ⟨m, rfl⟩ : ∃ k, m = k + 1 := ⟨m - 1, by omega⟩
    have e1 : (fun σ => zX6_putText_30_2 N (m + 1) s (Int32.ofNat j) σ) = (fun σ => fv_rv σ) := by
      funext σ
      show zX6_putText_30_2_b _ _ _ _ _ = _
      unfold zX6_putText_30_2_b
      rw [if_pos hs, x_len s hs, fv_bi_ri, if_pos ((p_leN _ _ (by omega) (by omega)).2 (by omega))]
    rw [e1, List.drop_eq_nil_of_le (by omega)]
    exact tx_rv σ0
  | succ d ih =>
    intro j m e hj hm
    obtain ⟨m, rfl⟩ : ∃ k, m = k + 1 := ⟨m - 1, by omega⟩
    have hj' : j < fv_sl0 s := by omega
    have e1 : (fun σ => zX6_putText_30_2 N (m + 1) s (Int32.ofNat j) σ) = (fun σ => fv_bv (zX6_put_30 (Int32.ofNat (p_ch s j)) σ) (fun σ5 => zX6_putText_30_2 N m s (Int32.ofNat (j + 1)) σ5) fv_no) := by
      funext σ
      show zX6_putText_30_2_b _ _ _ _ _ = _
      unfold zX6_putText_30_2_b
      rw [if_pos hs, x_len s hs, fv_bi_ri, if_neg (fun c => by have := (p_leN _ _ (by omega) (by omega)).1 c; omega), if_pos hs, x_chr s j hs hj', fv_bi_ri, p_sucN]
    rw [e1, List.drop_eq_getElem_cons (by omega)]
    have e2 : (p_nm s)[j]'(by omega) = p_ch s j := by unfold p_nm; simp
    rw [e2]
    exact tx_b (tx_one σ0 _ (k_ch s hs j (by omega) hj').2.2) (ih (j + 1) m (by omega) (by omega) (by omega))
theorem vx_tx (σ0 : fv_S) (E : Nat → List Nat) (n s : Nat) (hs : s < 102) : pVx σ0 E (fun σ => zX6_putText_30 (n + 20) s σ) (p_nm s) := by
  have l := k_len s hs
  refine vx_lit ?_ ?_
  · have := tx_tx σ0 (n + 20) s hs (fv_sl0 s) 0 (n + 20) (by omega) (by omega) (by omega)
    exact this
  · intro c hc
    unfold p_nm at hc
    rw [List.mem_map] at hc
    obtain ⟨i, hi, rfl⟩ := hc
    rw [List.mem_range] at hi
    exact (k_ch s hs i (by omega) hi).2.2
theorem vx_nm (σ0 : fv_S) (E : Nat → List Nat) (n s : Nat) (hs : s < 99) : pVx σ0 E (fun σ => zX6_putName_30 (n + 20) (Int32.ofNat s) σ) (p_nm s) := by
  obtain ⟨i1, i2⟩ := p_inN s 99 hs (by omega)
  unfold zX6_putName_30
  simp only [if_pos i1]
  rw [i2]
  exact vx_w (vx_tx σ0 E n s (by omega))
theorem vx_in (σ0 : fv_S) (E : Nat → List Nat) (n s : Nat) (hs : s < 99) : pVx σ0 E (fun σ => zX6_within_30 (n + 20) (Int32.ofNat s) σ) ([40] ++ (p_nm s ++ [41])) := by
  unfold zX6_within_30
  exact vx_b (vx_one σ0 E 40 (by omega)) (vx_b (vx_nm σ0 E n s hs) (vx_w (vx_one σ0 E 41 (by omega))))
theorem vx_id (σ0 : fv_S) (E : Nat → List Nat) (n v : Nat) (hv : v < 8) {d : Int32} (hE : p_hD E d) : pVx σ0 E (fun σ => zX6_putIndex_30 (n + 20) (Int32.ofNat v) d σ) ([40] ++ (p_nm (90 + v) ++ ([1003] ++ [41]))) := by
  unfold zX6_putIndex_30
  refine vx_b (vx_one σ0 E 40 (by omega)) (vx_b ?_ ?_)
  · rw [show (90 : Int32) + Int32.ofNat v = Int32.ofNat (90 + v) from (Int32.ofNat_add 90 v).symm]
    exact vx_nm σ0 E n (90 + v) (by omega)
  obtain ⟨k, hk, h⟩ := hE
  have gen : ∀ (sg : Nat) (v : Int32), sg < 128 → v = Int32.ofNat k → E 3 = sg :: p_dN k → (∀ σ, zJ3_abs d σ = fv_ri v σ) → pVx σ0 E (fun σ => zX6_putIndex_30_26 (n + 20) d (Int32.ofNat sg) σ) ([1003] ++ [41]) := by
    intro sg v hs hv he q
    have ht2 : p_ren E ([1003] ++ [41]) = [sg] ++ (p_dN k ++ [41]) := by
      show (if 1003 < 1000 then [1003] else E (1003 - 1000)) ++ ((if 41 < 1000 then [41] else E (41 - 1000)) ++ []) = _
      rw [if_neg (by omega), if_pos (by omega), show E (1003 - 1000) = sg :: p_dN k from he]; rfl
    unfold pVx
    rw [ht2]
    unfold zX6_putIndex_30_26
    simp only [q, fv_bi_ri]
    subst hv
    exact tx_b (tx_one σ0 sg hs) (tx_b (tx_num σ0 (n + 20) k (by omega) (by omega)) (tx_w (tx_one σ0 41 (by omega))))
  rcases h with ⟨h1, h2⟩ | ⟨h1, h0, h2⟩
  · have h0 : (0 : Int32) ≤ d := by rw [h1, p_le, p_ofn k (by omega)]; show (0 : Int) ≤ _; omega
    simp only [if_pos h0]
    exact gen 43 d (by omega) h1 h2 (fun σ => by unfold zJ3_abs; rw [if_pos h0])
  · simp only [if_neg h0]
    exact gen 45 (-d) (by omega) (by rw [h1, Int32.neg_neg]) h2 (fun σ => by unfold zJ3_abs; rw [if_neg h0])
def pVy (σ0 : fv_S) (E : Nat → List Nat) (f : fv_S → Option fv_O) (t : List Nat) : Prop := pTy σ0 f (p_ren E t)
theorem vy_b {σ0 : fv_S} {E : Nat → List Nat} {f g : fv_S → Option fv_O} {t u : List Nat} (hf : pVy σ0 E f t) (hg : pVy σ0 E g u) : pVy σ0 E (fun σ => fv_bv (f σ) (fun σ1 => g σ1) fv_no) (t ++ u) := by
  unfold pVy at *; rw [p_ren_app]; exact ty_b hf hg
theorem vy_w {σ0 : fv_S} {E : Nat → List Nat} {f : fv_S → Option fv_O} {t : List Nat} (hf : pVy σ0 E f t) : pVy σ0 E (fun σ => fv_bv (f σ) (fun σ1 => fv_rv σ1) fv_no) t := ty_w hf
theorem vy_lit {σ0 : fv_S} {E : Nat → List Nat} {f : fv_S → Option fv_O} {t : List Nat} (h : pTy σ0 f t) (ha : ∀ c, c ∈ t → c < 128) : pVy σ0 E f t := by
  unfold pVy
  rw [p_ren_lit E t (fun c hc => by have := ha c hc; omega)]; exact h
theorem vy_one (σ0 : fv_S) (E : Nat → List Nat) (c : Nat) (hc : c < 128) : pVy σ0 E (fun σ => zX6_put_32 (Int32.ofNat c) σ) [c] := vy_lit (ty_one σ0 c hc) (by intro d hd; simp at hd; omega)
theorem vy_num (σ0 : fv_S) (E : Nat → List Nat) (n : Nat) {v : Int32} {k : Nat} (e : v = Int32.ofNat k) (hk : k < 65536) : pVy σ0 E (fun σ => zX6_putNumber_32 (n + 20) v σ) (p_dN k) := by
  subst e
  exact vy_lit (ty_num σ0 (n + 20) k (by omega) hk) (fun c hc => p_dlb k _ c hc)
theorem vy_num0 (σ0 : fv_S) (E : Nat → List Nat) (n : Nat) {v : Int32} {k j : Nat} (e : v = Int32.ofNat k) (hk : k < 65536) (hE : E j = p_dN k) : pVy σ0 E (fun σ => zX6_putNumber_32 (n + 20) v σ) [1000 + j] := by
  unfold pVy
  have : p_ren E [1000 + j] = p_dN k := by
    show (if 1000 + j < 1000 then [1000 + j] else E (1000 + j - 1000)) ++ [] = _
    rw [if_neg (by omega), List.append_nil, Nat.add_sub_cancel_left, hE]
  rw [this]
  subst e
  exact ty_num σ0 (n + 20) k (by omega) hk
theorem ty_tx (σ0 : fv_S) (N s : Nat) (hs : s < 102) : ∀ (d j m : Nat), fv_sl0 s - j = d → j ≤ fv_sl0 s → d + 1 ≤ m → pTy σ0 (fun σ => zX6_putText_32_2 N m s (Int32.ofNat j) σ) ((p_nm s).drop j) := by
  have l := k_len s hs
  have nl : (p_nm s).length = fv_sl0 s := by unfold p_nm; simp
  intro d
  induction d with
  | zero =>
    intro j m e hj hm
    obtain ⟨m, rfl⟩ : ∃ k, m = k + 1 := ⟨m - 1, by omega⟩
    have e1 : (fun σ => zX6_putText_32_2 N (m + 1) s (Int32.ofNat j) σ) = (fun σ => fv_rv σ) := by
      funext σ
      show zX6_putText_32_2_b _ _ _ _ _ = _
      unfold zX6_putText_32_2_b
      rw [if_pos hs, x_len s hs, fv_bi_ri, if_pos ((p_leN _ _ (by omega) (by omega)).2 (by omega))]
    rw [e1, List.drop_eq_nil_of_le (by omega)]
    exact ty_rv σ0
  | succ d ih =>
    intro j m e hj hm
    obtain ⟨m, rfl⟩ : ∃ k, m = k + 1 := ⟨m - 1, by omega⟩
    have hj' : j < fv_sl0 s := by omega
    have e1 : (fun σ => zX6_putText_32_2 N (m + 1) s (Int32.ofNat j) σ) = (fun σ => fv_bv (zX6_put_32 (Int32.ofNat (p_ch s j)) σ) (fun σ5 => zX6_putText_32_2 N m s (Int32.ofNat (j + 1)) σ5) fv_no) := by
      funext σ
      show zX6_putText_32_2_b _ _ _ _ _ = _
      unfold zX6_putText_32_2_b
      rw [if_pos hs, x_len s hs, fv_bi_ri, if_neg (fun c => by have := (p_leN _ _ (by omega) (by omega)).1 c; omega), if_pos hs, x_chr s j hs hj', fv_bi_ri, p_sucN]
    rw [e1, List.drop_eq_getElem_cons (by omega)]
    have e2 : (p_nm s)[j]'(by omega) = p_ch s j := by unfold p_nm; simp
    rw [e2]
    exact ty_b (ty_one σ0 _ (k_ch s hs j (by omega) hj').2.2) (ih (j + 1) m (by omega) (by omega) (by omega))
theorem vy_tx (σ0 : fv_S) (E : Nat → List Nat) (n s : Nat) (hs : s < 102) : pVy σ0 E (fun σ => zX6_putText_32 (n + 20) s σ) (p_nm s) := by
  have l := k_len s hs
  refine vy_lit ?_ ?_
  · have := ty_tx σ0 (n + 20) s hs (fv_sl0 s) 0 (n + 20) (by omega) (by omega) (by omega)
    exact this
  · intro c hc
    unfold p_nm at hc
    rw [List.mem_map] at hc
    obtain ⟨i, hi, rfl⟩ := hc
    rw [List.mem_range] at hi
    exact (k_ch s hs i (by omega) hi).2.2
theorem vy_nm (σ0 : fv_S) (E : Nat → List Nat) (n s : Nat) (hs : s < 99) : pVy σ0 E (fun σ => zX6_putName_32 (n + 20) (Int32.ofNat s) σ) (p_nm s) := by
  obtain ⟨i1, i2⟩ := p_inN s 99 hs (by omega)
  unfold zX6_putName_32
  simp only [if_pos i1]
  rw [i2]
  exact vy_w (vy_tx σ0 E n s (by omega))
theorem vy_in (σ0 : fv_S) (E : Nat → List Nat) (n s : Nat) (hs : s < 99) : pVy σ0 E (fun σ => zX6_within_32 (n + 20) (Int32.ofNat s) σ) ([40] ++ (p_nm s ++ [41])) := by
  unfold zX6_within_32
  exact vy_b (vy_one σ0 E 40 (by omega)) (vy_b (vy_nm σ0 E n s hs) (vy_w (vy_one σ0 E 41 (by omega))))
theorem vy_id (σ0 : fv_S) (E : Nat → List Nat) (n v : Nat) (hv : v < 8) {d : Int32} (hE : p_hD E d) : pVy σ0 E (fun σ => zX6_putIndex_32 (n + 20) (Int32.ofNat v) d σ) ([40] ++ (p_nm (90 + v) ++ ([1003] ++ [41]))) := by
  unfold zX6_putIndex_32
  refine vy_b (vy_one σ0 E 40 (by omega)) (vy_b ?_ ?_)
  · rw [show (90 : Int32) + Int32.ofNat v = Int32.ofNat (90 + v) from (Int32.ofNat_add 90 v).symm]
    exact vy_nm σ0 E n (90 + v) (by omega)
  obtain ⟨k, hk, h⟩ := hE
  have gen : ∀ (sg : Nat) (v : Int32), sg < 128 → v = Int32.ofNat k → E 3 = sg :: p_dN k → (∀ σ, zJ3_abs d σ = fv_ri v σ) → pVy σ0 E (fun σ => zX6_putIndex_32_26 (n + 20) d (Int32.ofNat sg) σ) ([1003] ++ [41]) := by
    intro sg v hs hv he q
    have ht2 : p_ren E ([1003] ++ [41]) = [sg] ++ (p_dN k ++ [41]) := by
      show (if 1003 < 1000 then [1003] else E (1003 - 1000)) ++ ((if 41 < 1000 then [41] else E (41 - 1000)) ++ []) = _
      rw [if_neg (by omega), if_pos (by omega), show E (1003 - 1000) = sg :: p_dN k from he]; rfl
    unfold pVy
    rw [ht2]
    unfold zX6_putIndex_32_26
    simp only [q, fv_bi_ri]
    subst hv
    exact ty_b (ty_one σ0 sg hs) (ty_b (ty_num σ0 (n + 20) k (by omega) (by omega)) (ty_w (ty_one σ0 41 (by omega))))
  rcases h with ⟨h1, h2⟩ | ⟨h1, h0, h2⟩
  · have h0 : (0 : Int32) ≤ d := by rw [h1, p_le, p_ofn k (by omega)]; show (0 : Int) ≤ _; omega
    simp only [if_pos h0]
    exact gen 43 d (by omega) h1 h2 (fun σ => by unfold zJ3_abs; rw [if_pos h0])
  · simp only [if_neg h0]
    exact gen 45 (-d) (by omega) (by rw [h1, Int32.neg_neg]) h2 (fun σ => by unfold zJ3_abs; rw [if_neg h0])
