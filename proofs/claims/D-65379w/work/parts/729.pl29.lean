set_option maxRecDepth 100000
set_option maxHeartbeats 4000000
/-! The plain law: writing signs and numbers, the class. -/
/-- what has been written: x -/
def pWx (σ : fv_S) (l : List Nat) : Prop := l.length ≤ 64 ∧ fv_gi σ 3841 = Int32.ofNat l.length ∧ ∀ i (h : i < l.length), fv_gw σ 31 i = Int32.ofNat l[i]
def pSx (σ0 σ : fv_S) : Prop := (∀ k, k ≠ 3841 → fv_gi σ k = fv_gi σ0 k) ∧ (∀ k, k ≠ 31 → fv_gw σ k = fv_gw σ0 k) ∧ σ.2.1 = σ0.2.1 ∧ fv_n σ = fv_n σ0 ∧ ∀ i, p_se (fv_gw σ 31 i) = fv_gw σ 31 i
theorem pSx_r (σ : fv_S) (hb : ∀ i, p_se (fv_gw σ 31 i) = fv_gw σ 31 i) : pSx σ σ := ⟨fun _ _ => rfl, fun _ _ => rfl, rfl, rfl, hb⟩
/-- f writes t (its signs) -/
def pTx (σ0 : fv_S) (f : fv_S → Option fv_O) (t : List Nat) : Prop := ∀ σ l, pSx σ0 σ → pWx σ l → l.length + t.length ≤ 64 → ∃ σ', f σ = fv_rv σ' ∧ pSx σ0 σ' ∧ pWx σ' (l ++ t)
theorem tx_rv (σ0 : fv_S) : pTx σ0 (fun σ => fv_rv σ) [] := by
  intro σ l s w _
  exact ⟨σ, rfl, s, by rw [List.append_nil]; exact w⟩
theorem tx_b {σ0 : fv_S} {f g : fv_S → Option fv_O} {t u : List Nat} (hf : pTx σ0 f t) (hg : pTx σ0 g u) : pTx σ0 (fun σ => fv_bv (f σ) (fun σ1 => g σ1) fv_no) (t ++ u) := by
  intro σ l s w hl
  rw [List.length_append] at hl
  obtain ⟨σ1, x1, s1, w1⟩ := hf σ l s w (by omega)
  obtain ⟨σ2, x2, s2, w2⟩ := hg σ1 (l ++ t) s1 w1 (by rw [List.length_append]; omega)
  refine ⟨σ2, ?_, s2, ?_⟩
  · show fv_bv (f σ) (fun σ1 => g σ1) fv_no = _
    rw [x1, fv_bv_rv, x2]
  · rw [← List.append_assoc]; exact w2
theorem tx_w {σ0 : fv_S} {f : fv_S → Option fv_O} {t : List Nat} (hf : pTx σ0 f t) : pTx σ0 (fun σ => fv_bv (f σ) (fun σ1 => fv_rv σ1) fv_no) t := by
  have := tx_b hf (tx_rv σ0)
  rw [List.append_nil] at this; exact this
theorem tx_one (σ0 : fv_S) (c : Nat) (hc : c < 128) : pTx σ0 (fun σ => zX6_put_30 (Int32.ofNat c) σ) [c] := by
  intro σ l s w hl
  simp only [List.length_cons, List.length_nil] at hl
  obtain ⟨w0, w1, w2⟩ := w
  obtain ⟨i1, i2⟩ := p_inN l.length 64 (by omega) (by omega)
  have hse : p_se (Int32.ofNat c) = Int32.ofNat c := by
    have : ∀ c, c < 128 → p_se (Int32.ofNat c) = Int32.ofNat c := by decide +kernel
    exact this c hc
  refine ⟨fv_sa (fv_si σ 3841 (Int32.ofNat (l.length + 1))) 31 (Int32.ofNat l.length) (Int32.ofNat c), ?_, ?_, ?_⟩
  · show zX6_put_30 (Int32.ofNat c) σ = _
    unfold zX6_put_30
    rw [w1, if_pos i1, p_sucN]
    rw [show (Int32.toInt8 ((Int32.toInt8 (Int32.ofNat c)).toInt32)).toInt32 = p_se (Int32.ofNat c) from p_se_se _, hse]
  · obtain ⟨s1, s2, s3, s4, s5⟩ := s
    refine ⟨fun k hk => (if_neg hk).trans (s1 k hk), fun k hk => (if_neg hk).trans (s2 k hk), s3, s4, fun i => by
      show p_se (upd (fv_gw σ 31) (Int32.ofNat l.length).toNatClampNeg (Int32.ofNat c) i) = upd (fv_gw σ 31) (Int32.ofNat l.length).toNatClampNeg (Int32.ofNat c) i
      unfold upd
      split
      · exact hse
      · exact s5 i⟩
  · refine ⟨by simp; omega, ?_, ?_⟩
    · show Int32.ofNat (l.length + 1) = _
      simp
    · intro i hi
      show upd (fv_gw σ 31) (Int32.ofNat l.length).toNatClampNeg (Int32.ofNat c) i = _
      unfold upd
      rw [i2]
      by_cases e : i = l.length
      · subst e; rw [if_pos rfl]; simp
      · have il : i < l.length := by simp at hi; omega
        rw [if_neg e, List.getElem_append_left il]; exact w2 i il
theorem tx_18 (σ0 : fv_S) (N n : Nat) (hn : n < 65536) : ∀ (j m : Nat), j ≤ 4 → j + 2 ≤ m → pTx σ0 (fun σ => zX6_putNumber_30_18 N m (Int32.ofNat n) (Int32.ofNat (10 ^ j)) σ) (p_dl n j) := by
  have dg : ∀ u : Nat, u < 65536 → 0 < u → (48 : Int32) + ((Int32.ofNat n / Int32.ofNat u) - (Int32.ofNat n / Int32.ofNat u) / (10 : Int32) * (10 : Int32)) = Int32.ofNat (48 + n / u % 10) := by
    intro u hu h0
    have h1 : n / u ≤ n := Nat.div_le_self n u
    rw [p_divN n u hn hu h0, p_modN (n / u) (by omega), Int32.ofNat_add]; rfl
  intro j
  induction j with
  | zero =>
    intro m _ hm
    obtain ⟨m, rfl⟩ : ∃ k, m = k + 2 := ⟨m - 2, by omega⟩
    have e : (fun σ => zX6_putNumber_30_18 N (m + 2) (Int32.ofNat n) (Int32.ofNat (10 ^ 0)) σ) = (fun σ => fv_bv (zX6_put_30 (Int32.ofNat (48 + n % 10)) σ) (fun σ1 => fv_rv σ1) fv_no) := by
      funext σ
      show zX6_putNumber_30_18_b _ _ _ _ _ = _
      unfold zX6_putNumber_30_18_b
      have d1 := dg 1 (by omega) (by omega)
      rw [Nat.div_one] at d1
      rw [if_neg (show ¬ Int32.ofNat (10 ^ 0) ≤ 0 by decide), if_neg (show ¬ Int32.ofNat (10 ^ 0) = 0 by decide), show Int32.ofNat (10 ^ 0) = Int32.ofNat 1 from rfl, d1]
      rfl
    rw [e]
    exact tx_w (tx_one σ0 _ (by omega))
  | succ j ih =>
    intro m hj hm
    obtain ⟨m, rfl⟩ : ∃ k, m = k + 1 := ⟨m - 1, by omega⟩
    have pj : 10 ^ (j + 1) < 65536 ∧ 0 < 10 ^ (j + 1) ∧ 10 ^ (j + 1) / 10 = 10 ^ j := by
      have : j = 0 ∨ j = 1 ∨ j = 2 ∨ j = 3 := by omega
      rcases this with rfl | rfl | rfl | rfl <;> decide
    have e : (fun σ => zX6_putNumber_30_18 N (m + 1) (Int32.ofNat n) (Int32.ofNat (10 ^ (j + 1))) σ) = (fun σ => fv_bv (zX6_put_30 (Int32.ofNat (48 + n / 10 ^ (j + 1) % 10)) σ) (fun σ1 => zX6_putNumber_30_18 N m (Int32.ofNat n) (Int32.ofNat (10 ^ j)) σ1) fv_no) := by
      funext σ
      show zX6_putNumber_30_18_b _ _ _ _ _ = _
      unfold zX6_putNumber_30_18_b
      have nz : ¬ Int32.ofNat (10 ^ (j + 1)) ≤ 0 := by rw [p_le, p_ofn _ (by omega)]; show ¬ ((10 ^ (j + 1) : Nat) : Int) ≤ 0; omega
      have ne : ¬ Int32.ofNat (10 ^ (j + 1)) = 0 := fun c => nz (by rw [c]; decide)
      rw [if_neg nz, if_neg ne, dg _ pj.1 pj.2.1, show (10 : Int32) = Int32.ofNat 10 from rfl, p_divN _ 10 pj.1 (by omega) (by omega), pj.2.2]
    rw [e]
    exact tx_b (tx_one σ0 _ (by omega)) (ih m (by omega) (by omega))
theorem tx_num (σ0 : fv_S) (N n : Nat) (hN : 10 ≤ N) (hn : n < 65536) : pTx σ0 (fun σ => zX6_putNumber_30 N (Int32.ofNat n) σ) (p_dN n) := by
  have go : ∀ j m, j ≤ 4 → j ≤ p_dk n → 6 ≤ m + j → pTx σ0 (fun σ => zX6_putNumber_30_2 N m (Int32.ofNat n) (Int32.ofNat (10 ^ j)) σ) (p_dN n) := by
    intro j
    -- from the largest down
    have key : ∀ d j m, 4 - j = d → j ≤ 4 → j ≤ p_dk n → 6 ≤ m + j → pTx σ0 (fun σ => zX6_putNumber_30_2 N m (Int32.ofNat n) (Int32.ofNat (10 ^ j)) σ) (p_dN n) := by
      intro d
      induction d with
      | zero =>
        intro j m e hj hd hm
        have : j = 4 := by omega
        subst this
        obtain ⟨m, rfl⟩ : ∃ k, m = k + 1 := ⟨m - 1, by omega⟩
        have k4 : p_dk n = 4 := by unfold p_dk at hd ⊢; revert hd; repeat' split
                                   all_goals omega
        have e2 : (fun σ => zX6_putNumber_30_2 N (m + 1) (Int32.ofNat n) (Int32.ofNat (10 ^ 4)) σ) = (fun σ => zX6_putNumber_30_18 N N (Int32.ofNat n) (Int32.ofNat (10 ^ 4)) σ) := by
          funext σ
          show zX6_putNumber_30_2_b _ _ _ _ _ = _
          unfold zX6_putNumber_30_2_b
          rw [if_neg (show ¬ Int32.ofNat (10 ^ 4) = 0 by decide), p_divN n (10 ^ 4) hn (by decide) (by decide)]
          exact if_pos ((p_ltN (n / 10 ^ 4) 10 (by omega) (by omega)).2 (by omega))
        rw [e2]
        unfold p_dN; rw [k4]
        exact tx_18 σ0 N n hn 4 N (by omega) (by omega)
      | succ d ih =>
        intro j m e hj hd hm
        obtain ⟨m, rfl⟩ : ∃ k, m = k + 1 := ⟨m - 1, by omega⟩
        have pj : 10 ^ j < 65536 ∧ 0 < 10 ^ j ∧ 10 ^ j * 10 = 10 ^ (j + 1) := by
          have : j = 0 ∨ j = 1 ∨ j = 2 ∨ j = 3 := by omega
          rcases this with rfl | rfl | rfl | rfl <;> decide
        have ne : ¬ Int32.ofNat (10 ^ j) = 0 := fun c => by
          have h9 : Int32.ofNat (10 ^ j) ≤ 0 := by rw [c]; decide
          rw [p_le, p_ofn _ (by omega)] at h9
          have h8 : ((10 ^ j : Nat) : Int) ≤ 0 := h9
          omega
        have h1 : n / 10 ^ j ≤ n := Nat.div_le_self n _
        have dkj : n / 10 ^ j ≤ 9 ↔ p_dk n = j := by
          unfold p_dk at hd ⊢
          have : j = 0 ∨ j = 1 ∨ j = 2 ∨ j = 3 := by omega
          rcases this with rfl | rfl | rfl | rfl <;> (revert hd; repeat' split) <;> simp <;> omega
        by_cases c : n / 10 ^ j ≤ 9
        · have e2 : (fun σ => zX6_putNumber_30_2 N (m + 1) (Int32.ofNat n) (Int32.ofNat (10 ^ j)) σ) = (fun σ => zX6_putNumber_30_18 N N (Int32.ofNat n) (Int32.ofNat (10 ^ j)) σ) := by
            funext σ
            show zX6_putNumber_30_2_b _ _ _ _ _ = _
            unfold zX6_putNumber_30_2_b
            rw [if_neg ne, p_divN n (10 ^ j) hn pj.1 pj.2.1]
            exact if_pos ((p_ltN (n / 10 ^ j) 10 (by omega) (by omega)).2 (by omega))
          rw [e2]
          unfold p_dN; rw [dkj.1 c]
          exact tx_18 σ0 N n hn j N hj (by omega)
        · have e2 : (fun σ => zX6_putNumber_30_2 N (m + 1) (Int32.ofNat n) (Int32.ofNat (10 ^ j)) σ) = (fun σ => zX6_putNumber_30_2 N m (Int32.ofNat n) (Int32.ofNat (10 ^ (j + 1))) σ) := by
            funext σ
            show zX6_putNumber_30_2_b _ _ _ _ _ = _
            unfold zX6_putNumber_30_2_b
            rw [if_neg ne, p_divN n (10 ^ j) hn pj.1 pj.2.1, show (10 : Int32) = Int32.ofNat 10 from rfl, ← Int32.ofNat_mul, pj.2.2]
            exact if_neg (fun e3 => c (by have := (p_ltN (n / 10 ^ j) 10 (by omega) (by omega)).1 e3; omega))
          rw [e2]
          exact ih (j + 1) m (by omega) (by omega) (by have := mt dkj.2 c; omega) (by omega)
    intro m hj hd hm
    exact key (4 - j) j m rfl hj hd hm
  exact go 0 N (by omega) (by omega) (by omega)
/-- what has been written: y -/
def pWy (σ : fv_S) (l : List Nat) : Prop := l.length ≤ 64 ∧ fv_gi σ 4097 = Int32.ofNat l.length ∧ ∀ i (h : i < l.length), fv_gw σ 33 i = Int32.ofNat l[i]
def pSy (σ0 σ : fv_S) : Prop := (∀ k, k ≠ 4097 → fv_gi σ k = fv_gi σ0 k) ∧ (∀ k, k ≠ 33 → fv_gw σ k = fv_gw σ0 k) ∧ σ.2.1 = σ0.2.1 ∧ fv_n σ = fv_n σ0 ∧ ∀ i, p_se (fv_gw σ 33 i) = fv_gw σ 33 i
theorem pSy_r (σ : fv_S) (hb : ∀ i, p_se (fv_gw σ 33 i) = fv_gw σ 33 i) : pSy σ σ := ⟨fun _ _ => rfl, fun _ _ => rfl, rfl, rfl, hb⟩
/-- f writes t (its signs) -/
def pTy (σ0 : fv_S) (f : fv_S → Option fv_O) (t : List Nat) : Prop := ∀ σ l, pSy σ0 σ → pWy σ l → l.length + t.length ≤ 64 → ∃ σ', f σ = fv_rv σ' ∧ pSy σ0 σ' ∧ pWy σ' (l ++ t)
theorem ty_rv (σ0 : fv_S) : pTy σ0 (fun σ => fv_rv σ) [] := by
  intro σ l s w _
  exact ⟨σ, rfl, s, by rw [List.append_nil]; exact w⟩
theorem ty_b {σ0 : fv_S} {f g : fv_S → Option fv_O} {t u : List Nat} (hf : pTy σ0 f t) (hg : pTy σ0 g u) : pTy σ0 (fun σ => fv_bv (f σ) (fun σ1 => g σ1) fv_no) (t ++ u) := by
  intro σ l s w hl
  rw [List.length_append] at hl
  obtain ⟨σ1, x1, s1, w1⟩ := hf σ l s w (by omega)
  obtain ⟨σ2, x2, s2, w2⟩ := hg σ1 (l ++ t) s1 w1 (by rw [List.length_append]; omega)
  refine ⟨σ2, ?_, s2, ?_⟩
  · show fv_bv (f σ) (fun σ1 => g σ1) fv_no = _
    rw [x1, fv_bv_rv, x2]
  · rw [← List.append_assoc]; exact w2
theorem ty_w {σ0 : fv_S} {f : fv_S → Option fv_O} {t : List Nat} (hf : pTy σ0 f t) : pTy σ0 (fun σ => fv_bv (f σ) (fun σ1 => fv_rv σ1) fv_no) t := by
  have := ty_b hf (ty_rv σ0)
  rw [List.append_nil] at this; exact this
theorem ty_one (σ0 : fv_S) (c : Nat) (hc : c < 128) : pTy σ0 (fun σ => zX6_put_32 (Int32.ofNat c) σ) [c] := by
  intro σ l s w hl
  simp only [List.length_cons, List.length_nil] at hl
  obtain ⟨w0, w1, w2⟩ := w
  obtain ⟨i1, i2⟩ := p_inN l.length 64 (by omega) (by omega)
  have hse : p_se (Int32.ofNat c) = Int32.ofNat c := by
    have : ∀ c, c < 128 → p_se (Int32.ofNat c) = Int32.ofNat c := by decide +kernel
    exact this c hc
  refine ⟨fv_sa (fv_si σ 4097 (Int32.ofNat (l.length + 1))) 33 (Int32.ofNat l.length) (Int32.ofNat c), ?_, ?_, ?_⟩
  · show zX6_put_32 (Int32.ofNat c) σ = _
    unfold zX6_put_32
    rw [w1, if_pos i1, p_sucN]
    rw [show (Int32.toInt8 ((Int32.toInt8 (Int32.ofNat c)).toInt32)).toInt32 = p_se (Int32.ofNat c) from p_se_se _, hse]
  · obtain ⟨s1, s2, s3, s4, s5⟩ := s
    refine ⟨fun k hk => (if_neg hk).trans (s1 k hk), fun k hk => (if_neg hk).trans (s2 k hk), s3, s4, fun i => by
      show p_se (upd (fv_gw σ 33) (Int32.ofNat l.length).toNatClampNeg (Int32.ofNat c) i) = upd (fv_gw σ 33) (Int32.ofNat l.length).toNatClampNeg (Int32.ofNat c) i
      unfold upd
      split
      · exact hse
      · exact s5 i⟩
  · refine ⟨by simp; omega, ?_, ?_⟩
    · show Int32.ofNat (l.length + 1) = _
      simp
    · intro i hi
      show upd (fv_gw σ 33) (Int32.ofNat l.length).toNatClampNeg (Int32.ofNat c) i = _
      unfold upd
      rw [i2]
      by_cases e : i = l.length
      · subst e; rw [if_pos rfl]; simp
      · have il : i < l.length := by simp at hi; omega
        rw [if_neg e, List.getElem_append_left il]; exact w2 i il
theorem ty_18 (σ0 : fv_S) (N n : Nat) (hn : n < 65536) : ∀ (j m : Nat), j ≤ 4 → j + 2 ≤ m → pTy σ0 (fun σ => zX6_putNumber_32_18 N m (Int32.ofNat n) (Int32.ofNat (10 ^ j)) σ) (p_dl n j) := by
  have dg : ∀ u : Nat, u < 65536 → 0 < u → (48 : Int32) + ((Int32.ofNat n / Int32.ofNat u) - (Int32.ofNat n / Int32.ofNat u) / (10 : Int32) * (10 : Int32)) = Int32.ofNat (48 + n / u % 10) := by
    intro u hu h0
    have h1 : n / u ≤ n := Nat.div_le_self n u
    rw [p_divN n u hn hu h0, p_modN (n / u) (by omega), Int32.ofNat_add]; rfl
  intro j
  induction j with
  | zero =>
    intro m _ hm
    obtain ⟨m, rfl⟩ : ∃ k, m = k + 2 := ⟨m - 2, by omega⟩
    have e : (fun σ => zX6_putNumber_32_18 N (m + 2) (Int32.ofNat n) (Int32.ofNat (10 ^ 0)) σ) = (fun σ => fv_bv (zX6_put_32 (Int32.ofNat (48 + n % 10)) σ) (fun σ1 => fv_rv σ1) fv_no) := by
      funext σ
      show zX6_putNumber_32_18_b _ _ _ _ _ = _
      unfold zX6_putNumber_32_18_b
      have d1 := dg 1 (by omega) (by omega)
      rw [Nat.div_one] at d1
      rw [if_neg (show ¬ Int32.ofNat (10 ^ 0) ≤ 0 by decide), if_neg (show ¬ Int32.ofNat (10 ^ 0) = 0 by decide), show Int32.ofNat (10 ^ 0) = Int32.ofNat 1 from rfl, d1]
      rfl
    rw [e]
    exact ty_w (ty_one σ0 _ (by omega))
  | succ j ih =>
    intro m hj hm
    obtain ⟨m, rfl⟩ : ∃ k, m = k + 1 := ⟨m - 1, by omega⟩
    have pj : 10 ^ (j + 1) < 65536 ∧ 0 < 10 ^ (j + 1) ∧ 10 ^ (j + 1) / 10 = 10 ^ j := by
      have : j = 0 ∨ j = 1 ∨ j = 2 ∨ j = 3 := by omega
      rcases this with rfl | rfl | rfl | rfl <;> decide
    have e : (fun σ => zX6_putNumber_32_18 N (m + 1) (Int32.ofNat n) (Int32.ofNat (10 ^ (j + 1))) σ) = (fun σ => fv_bv (zX6_put_32 (Int32.ofNat (48 + n / 10 ^ (j + 1) % 10)) σ) (fun σ1 => zX6_putNumber_32_18 N m (Int32.ofNat n) (Int32.ofNat (10 ^ j)) σ1) fv_no) := by
      funext σ
      show zX6_putNumber_32_18_b _ _ _ _ _ = _
      unfold zX6_putNumber_32_18_b
      have nz : ¬ Int32.ofNat (10 ^ (j + 1)) ≤ 0 := by rw [p_le, p_ofn _ (by omega)]; show ¬ ((10 ^ (j + 1) : Nat) : Int) ≤ 0; omega
      have ne : ¬ Int32.ofNat (10 ^ (j + 1)) = 0 := fun c => nz (by rw [c]; decide)
      rw [if_neg nz, if_neg ne, dg _ pj.1 pj.2.1, show (10 : Int32) = Int32.ofNat 10 from rfl, p_divN _ 10 pj.1 (by omega) (by omega), pj.2.2]
    rw [e]
    exact ty_b (ty_one σ0 _ (by omega)) (ih m (by omega) (by omega))
theorem ty_num (σ0 : fv_S) (N n : Nat) (hN : 10 ≤ N) (hn : n < 65536) : pTy σ0 (fun σ => zX6_putNumber_32 N (Int32.ofNat n) σ) (p_dN n) := by
  have go : ∀ j m, j ≤ 4 → j ≤ p_dk n → 6 ≤ m + j → pTy σ0 (fun σ => zX6_putNumber_32_2 N m (Int32.ofNat n) (Int32.ofNat (10 ^ j)) σ) (p_dN n) := by
    intro j
    -- from the largest down
    have key : ∀ d j m, 4 - j = d → j ≤ 4 → j ≤ p_dk n → 6 ≤ m + j → pTy σ0 (fun σ => zX6_putNumber_32_2 N m (Int32.ofNat n) (Int32.ofNat (10 ^ j)) σ) (p_dN n) := by
      intro d
      induction d with
      | zero =>
        intro j m e hj hd hm
        have : j = 4 := by omega
        subst this
        obtain ⟨m, rfl⟩ : ∃ k, m = k + 1 := ⟨m - 1, by omega⟩
        have k4 : p_dk n = 4 := by unfold p_dk at hd ⊢; revert hd; repeat' split
                                   all_goals omega
        have e2 : (fun σ => zX6_putNumber_32_2 N (m + 1) (Int32.ofNat n) (Int32.ofNat (10 ^ 4)) σ) = (fun σ => zX6_putNumber_32_18 N N (Int32.ofNat n) (Int32.ofNat (10 ^ 4)) σ) := by
          funext σ
          show zX6_putNumber_32_2_b _ _ _ _ _ = _
          unfold zX6_putNumber_32_2_b
          rw [if_neg (show ¬ Int32.ofNat (10 ^ 4) = 0 by decide), p_divN n (10 ^ 4) hn (by decide) (by decide)]
          exact if_pos ((p_ltN (n / 10 ^ 4) 10 (by omega) (by omega)).2 (by omega))
        rw [e2]
        unfold p_dN; rw [k4]
        exact ty_18 σ0 N n hn 4 N (by omega) (by omega)
      | succ d ih =>
        intro j m e hj hd hm
        obtain ⟨m, rfl⟩ : ∃ k, m = k + 1 := ⟨m - 1, by omega⟩
        have pj : 10 ^ j < 65536 ∧ 0 < 10 ^ j ∧ 10 ^ j * 10 = 10 ^ (j + 1) := by
          have : j = 0 ∨ j = 1 ∨ j = 2 ∨ j = 3 := by omega
          rcases this with rfl | rfl | rfl | rfl <;> decide
        have ne : ¬ Int32.ofNat (10 ^ j) = 0 := fun c => by
          have h9 : Int32.ofNat (10 ^ j) ≤ 0 := by rw [c]; decide
          rw [p_le, p_ofn _ (by omega)] at h9
          have h8 : ((10 ^ j : Nat) : Int) ≤ 0 := h9
          omega
        have h1 : n / 10 ^ j ≤ n := Nat.div_le_self n _
        have dkj : n / 10 ^ j ≤ 9 ↔ p_dk n = j := by
          unfold p_dk at hd ⊢
          have : j = 0 ∨ j = 1 ∨ j = 2 ∨ j = 3 := by omega
          rcases this with rfl | rfl | rfl | rfl <;> (revert hd; repeat' split) <;> simp <;> omega
        by_cases c : n / 10 ^ j ≤ 9
        · have e2 : (fun σ => zX6_putNumber_32_2 N (m + 1) (Int32.ofNat n) (Int32.ofNat (10 ^ j)) σ) = (fun σ => zX6_putNumber_32_18 N N (Int32.ofNat n) (Int32.ofNat (10 ^ j)) σ) := by
            funext σ
            show zX6_putNumber_32_2_b _ _ _ _ _ = _
            unfold zX6_putNumber_32_2_b
            rw [if_neg ne, p_divN n (10 ^ j) hn pj.1 pj.2.1]
            exact if_pos ((p_ltN (n / 10 ^ j) 10 (by omega) (by omega)).2 (by omega))
          rw [e2]
          unfold p_dN; rw [dkj.1 c]
          exact ty_18 σ0 N n hn j N hj (by omega)
        · have e2 : (fun σ => zX6_putNumber_32_2 N (m + 1) (Int32.ofNat n) (Int32.ofNat (10 ^ j)) σ) = (fun σ => zX6_putNumber_32_2 N m (Int32.ofNat n) (Int32.ofNat (10 ^ (j + 1))) σ) := by
            funext σ
            show zX6_putNumber_32_2_b _ _ _ _ _ = _
            unfold zX6_putNumber_32_2_b
            rw [if_neg ne, p_divN n (10 ^ j) hn pj.1 pj.2.1, show (10 : Int32) = Int32.ofNat 10 from rfl, ← Int32.ofNat_mul, pj.2.2]
            exact if_neg (fun e3 => c (by have := (p_ltN (n / 10 ^ j) 10 (by omega) (by omega)).1 e3; omega))
          rw [e2]
          exact ih (j + 1) m (by omega) (by omega) (by have := mt dkj.2 c; omega) (by omega)
    intro m hj hd hm
    exact key (4 - j) j m rfl hj hd hm
  exact go 0 N (by omega) (by omega) (by omega)
