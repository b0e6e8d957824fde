set_option maxRecDepth 100000
set_option maxHeartbeats 4000000
/-! The plain law: the table's finite checks. -/
theorem f_c0 : ∀ n, n < 256 → p_pr (fun σ => zF_X2_plain (Int32.ofNat n) σ) = p_ls (p_g0.getD n []) := by decide +kernel
theorem f_c1 : ∀ n, n < 256 → p_pr (fun σ => zF_X2_bits (Int32.ofNat n) σ) = p_ls (p_g1.getD n []) := by decide +kernel
theorem f_c2 : ∀ n, n < 256 → p_pr (fun σ => zF_X2_extra (Int32.ofNat n) σ) = p_ls (p_g2.getD n []) := by decide +kernel
def p_oks (s : List (List p_F)) : Bool := s.all (fun l => l.all (fun m => decide (m.1 < 7) && decide (m.2.1 < 256)))
theorem f_ok0 : p_oks p_g0 = true := by decide +kernel
theorem f_ok1 : p_oks p_g1 = true := by decide +kernel
theorem f_ok2 : p_oks p_g2 = true := by decide +kernel
theorem f_okm {s : List (List p_F)} (h : p_oks s = true) (n : Nat) : ∀ m, m ∈ s.getD n [] → p_fok m := by
  intro m hm
  unfold p_oks at h
  rw [List.all_eq_true] at h
  have h1 : s.getD n [] ∈ s ∨ s.getD n [] = [] := by
    by_cases c : n < s.length
    · left
      rw [List.getD_eq_getElem?_getD, List.getElem?_eq_getElem c]
      exact List.getElem_mem c
    · right
      rw [List.getD_eq_getElem?_getD, List.getElem?_eq_none (by omega)]; rfl
  rcases h1 with h1 | h1
  · have := h _ h1
    rw [List.all_eq_true] at this
    have := this m hm
    simp at this
    exact this
  · rw [h1] at hm; cases hm
theorem f_tk (s : List (List p_F)) (n : Nat) (h : n < s.length) : (s.take (n + 1)).flatten = (s.take n).flatten ++ s.getD n [] := by
  rw [List.take_succ, List.flatten_append, List.getElem?_eq_getElem h, List.getD_eq_getElem?_getD, List.getElem?_eq_getElem h]
  simp
theorem f_len : ∀ n, n ≤ 256 → (p_g0.take n).flatten.length ≤ 252 ∧ (p_g1.take n).flatten.length ≤ 248 ∧ (p_g2.take n).flatten.length ≤ 56 := by
  have : ∀ n, n < 257 → (p_g0.take n).flatten.length ≤ 252 ∧ (p_g1.take n).flatten.length ≤ 248 ∧ (p_g2.take n).flatten.length ≤ 56 := by decide +kernel
  intro n hn; exact this n (by omega)
theorem f_l3 : p_g0.length = 256 ∧ p_g1.length = 256 ∧ p_g2.length = 256 := by decide +kernel
def p_T0 : List p_F := p_g0.flatten ++ p_g1.flatten ++ p_g2.flatten
theorem f_tkall (s : List (List p_F)) (h : s.length = 256) : (s.take 256).flatten = s.flatten := by rw [List.take_of_length_le (by omega)]
theorem f_lp2 (N : Nat) : ∀ (d k m : Nat) (σ : fv_S), 256 - k = d → k ≤ 256 → d + 1 ≤ m → pFS σ (p_g0.flatten ++ p_g1.flatten ++ (p_g2.take k).flatten) → ∃ σ', zF_X2_init_142 N m (Int32.ofNat k) σ = zF_X2_init_167 N N (fv_gi σ' 7) 0 σ' ∧ pFS σ' p_T0 ∧ fv_n σ' = fv_n σ := by
  intro d
  have l0 := (f_len 256 (by omega)).1
  have l1 := (f_len 256 (by omega)).2.1
  rw [f_tkall _ f_l3.1] at l0
  rw [f_tkall _ f_l3.2.1] at l1
  induction d with
  | zero =>
    intro k m σ e hk hm h
    have : k = 256 := by omega
    subst this
    obtain ⟨m, rfl⟩ : ∃ j, m = j + 1 := ⟨m - 1, by omega⟩
    rw [f_tkall _ f_l3.2.2] at h
    refine ⟨σ, ?_, h, rfl⟩
    show zF_X2_init_142_b _ _ _ _ = _
    unfold zF_X2_init_142_b
    rw [if_pos (show (256 : Int32) ≤ Int32.ofNat 256 by decide)]
  | succ d ih =>
    intro k m σ e hk hm h
    obtain ⟨m, rfl⟩ : ∃ j, m = j + 1 := ⟨m - 1, by omega⟩
    have l2 := (f_len k (by omega)).2.2
    obtain ⟨σ1, x1, h1, n1⟩ := f_run (pA_extra (Int32.ofNat k)) (f_c2 k (by omega)) (f_okm f_ok2 k) h (by simp only [List.length_append]; omega)
    rw [List.append_assoc, ← f_tk _ _ (by rw [f_l3.2.2]; omega)] at h1
    obtain ⟨σ', x2, h2, n2⟩ := ih (k + 1) m σ1 (by omega) (by omega) (by omega) h1
    refine ⟨σ', ?_, h2, n2.trans n1⟩
    show zF_X2_init_142_b _ _ _ _ = _
    unfold zF_X2_init_142_b
    rw [if_neg (show ¬ (256 : Int32) ≤ Int32.ofNat k from fun c => by have := (p_leN 256 k (by omega) (by omega)).1 c; omega), show zF_X2_extra (Int32.ofNat k) σ = fv_rv σ1 from x1, fv_bv_rv, p_sucN, x2]
theorem f_lp1 (N : Nat) (hN : 300 ≤ N) : ∀ (d k m : Nat) (σ : fv_S), 256 - k = d → k ≤ 256 → d + 1 ≤ m → pFS σ (p_g0.flatten ++ (p_g1.take k).flatten) → ∃ σ', zF_X2_init_122 N m (Int32.ofNat k) σ = zF_X2_init_167 N N (fv_gi σ' 7) 0 σ' ∧ pFS σ' p_T0 ∧ fv_n σ' = fv_n σ := by
  intro d
  have l0 := (f_len 256 (by omega)).1
  rw [f_tkall _ f_l3.1] at l0
  induction d with
  | zero =>
    intro k m σ e hk hm h
    have : k = 256 := by omega
    subst this
    obtain ⟨m, rfl⟩ : ∃ j, m = j + 1 := ⟨m - 1, by omega⟩
    rw [f_tkall _ f_l3.2.1] at h
    obtain ⟨σ', x, y⟩ := f_lp2 N 256 0 N σ (by omega) (by omega) (by omega) (by simpa using h)
    refine ⟨σ', ?_, y⟩
    show zF_X2_init_122_b _ _ _ _ = _
    unfold zF_X2_init_122_b
    rw [if_pos (show (256 : Int32) ≤ Int32.ofNat 256 by decide)]
    exact x
  | succ d ih =>
    intro k m σ e hk hm h
    obtain ⟨m, rfl⟩ : ∃ j, m = j + 1 := ⟨m - 1, by omega⟩
    have l2 := (f_len k (by omega)).2.1
    obtain ⟨σ1, x1, h1, n1⟩ := f_run (pA_bits (Int32.ofNat k)) (f_c1 k (by omega)) (f_okm f_ok1 k) h (by simp only [List.length_append]; omega)
    rw [List.append_assoc, ← f_tk _ _ (by rw [f_l3.2.1]; omega)] at h1
    obtain ⟨σ', x2, h2, n2⟩ := ih (k + 1) m σ1 (by omega) (by omega) (by omega) h1
    refine ⟨σ', ?_, h2, n2.trans n1⟩
    show zF_X2_init_122_b _ _ _ _ = _
    unfold zF_X2_init_122_b
    rw [if_neg (show ¬ (256 : Int32) ≤ Int32.ofNat k from fun c => by have := (p_leN 256 k (by omega) (by omega)).1 c; omega), show zF_X2_bits (Int32.ofNat k) σ = fv_rv σ1 from x1, fv_bv_rv, p_sucN, x2]
theorem f_lp0 (N : Nat) (hN : 300 ≤ N) : ∀ (d k m : Nat) (σ : fv_S), 256 - k = d → k ≤ 256 → d + 1 ≤ m → pFS σ ((p_g0.take k).flatten) → ∃ σ', zF_X2_init_102 N m (Int32.ofNat k) σ = zF_X2_init_167 N N (fv_gi σ' 7) 0 σ' ∧ pFS σ' p_T0 ∧ fv_n σ' = fv_n σ := by
  intro d
  induction d with
  | zero =>
    intro k m σ e hk hm h
    have : k = 256 := by omega
    subst this
    obtain ⟨m, rfl⟩ : ∃ j, m = j + 1 := ⟨m - 1, by omega⟩
    rw [f_tkall _ f_l3.1] at h
    obtain ⟨σ', x, y⟩ := f_lp1 N hN 256 0 N σ (by omega) (by omega) (by omega) (by simpa using h)
    refine ⟨σ', ?_, y⟩
    show zF_X2_init_102_b _ _ _ _ = _
    unfold zF_X2_init_102_b
    rw [if_pos (show (256 : Int32) ≤ Int32.ofNat 256 by decide)]
    exact x
  | succ d ih =>
    intro k m σ e hk hm h
    obtain ⟨m, rfl⟩ : ∃ j, m = j + 1 := ⟨m - 1, by omega⟩
    have l2 := (f_len k (by omega)).1
    obtain ⟨σ1, x1, h1, n1⟩ := f_run (pA_plain (Int32.ofNat k)) (f_c0 k (by omega)) (f_okm f_ok0 k) h (by omega)
    rw [← f_tk _ _ (by rw [f_l3.1]; omega)] at h1
    obtain ⟨σ', x2, h2, n2⟩ := ih (k + 1) m σ1 (by omega) (by omega) (by omega) h1
    refine ⟨σ', ?_, h2, n2.trans n1⟩
    show zF_X2_init_102_b _ _ _ _ = _
    unfold zF_X2_init_102_b
    rw [if_neg (show ¬ (256 : Int32) ≤ Int32.ofNat k from fun c => by have := (p_leN 256 k (by omega) (by omega)).1 c; omega), show zF_X2_plain (Int32.ofNat k) σ = fv_rv σ1 from x1, fv_bv_rv, p_sucN, x2]
theorem f_lpm (N : Nat) (hN : 300 ≤ N) : ∀ (d k m : Nat) (σ : fv_S), 1792 - k = d → k ≤ 1792 → d + 1 ≤ m → fv_gi σ 7 = 0 → (∀ i, i < k → fv_gw σ 8 i = -1) → ∃ σ', zF_X2_init_78 N m (Int32.ofNat k) σ = zF_X2_init_167 N N (fv_gi σ' 7) 0 σ' ∧ pFS σ' p_T0 ∧ fv_n σ' = fv_n σ := by
  intro d
  induction d with
  | zero =>
    intro k m σ e hk hm h0 h1
    have : k = 1792 := by omega
    subst this
    obtain ⟨m, rfl⟩ : ∃ j, m = j + 1 := ⟨m - 1, by omega⟩
    obtain ⟨σ', x, y⟩ := f_lp0 N hN 256 0 N σ (by omega) (by omega) (by omega) ⟨h0, fun k hk => absurd hk (by simp), fun i hi => h1 i hi⟩
    refine ⟨σ', ?_, y⟩
    show zF_X2_init_78_b _ _ _ _ = _
    unfold zF_X2_init_78_b
    rw [if_pos (show (1792 : Int32) ≤ Int32.ofNat 1792 by decide)]
    exact x
  | succ d ih =>
    intro k m σ e hk hm h0 h1
    obtain ⟨m, rfl⟩ : ∃ j, m = j + 1 := ⟨m - 1, by omega⟩
    obtain ⟨i1, i2⟩ := p_inN k 1792 (by omega) (by omega)
    obtain ⟨σ', x, y⟩ := ih (k + 1) m (fv_sa σ 8 (Int32.ofNat k) (-1)) (by omega) (by omega) (by omega) h0 (by
      intro i hi
      show upd (fv_gw σ 8) (Int32.ofNat k).toNatClampNeg (-1) i = -1
      unfold upd; rw [i2]
      by_cases c : i = k
      · rw [if_pos c]
      · rw [if_neg c]; exact h1 i (by omega))
    refine ⟨σ', ?_, y⟩
    show zF_X2_init_78_b _ _ _ _ = _
    unfold zF_X2_init_78_b
    rw [if_neg (show ¬ (1792 : Int32) ≤ Int32.ofNat k from fun c => by have := (p_leN 1792 k (by omega) (by omega)).1 c; omega), if_pos i1, p_sucN, x]
