set_option maxRecDepth 100000
set_option maxHeartbeats 4000000
/-! The plain law: writing signs and numbers. -/
theorem p_divN (n u : Nat) (hn : n < 65536) (hu : u < 65536) (h0 : 0 < u) : Int32.ofNat n / Int32.ofNat u = Int32.ofNat (n / u) := by
  apply Int32.toInt_inj.1
  have h1 : n / u ≤ n := Nat.div_le_self n u
  rw [Int32.toInt_div_of_ne_left, p_ofn n (by omega), p_ofn u (by omega), p_ofn (n / u) (by omega)]
  · rfl
  · intro e; have := congrArg Int32.toInt e; rw [p_ofn n (by omega)] at this; rw [show Int32.minValue.toInt = -2147483648 from rfl] at this; omega
theorem p_modN (n : Nat) (hn : n < 65536) : Int32.ofNat n - Int32.ofNat n / 10 * 10 = Int32.ofNat (n % 10) := by
  rw [show (10 : Int32) = Int32.ofNat 10 from rfl, p_divN n 10 hn (by omega) (by omega), ← Int32.ofNat_mul]
  have e : n = n / 10 * 10 + n % 10 := by omega
  have : Int32.ofNat n = Int32.ofNat (n / 10 * 10) + Int32.ofNat (n % 10) := by rw [← Int32.ofNat_add, ← e]
  rw [this, Int32.add_comm]; exact Int32.add_sub_cancel _ _
/-- the digits of n from the one of 10^j on -/
def p_dl (n : Nat) : Nat → List Nat
  | 0 => [48 + n % 10]
  | j + 1 => (48 + n / 10 ^ (j + 1) % 10) :: p_dl n j
def p_dk (n : Nat) : Nat := if n < 10 then 0 else if n < 100 then 1 else if n < 1000 then 2 else if n < 10000 then 3 else 4
def p_dN (n : Nat) : List Nat := p_dl n (p_dk n)
theorem p_dlb (n : Nat) : ∀ j c, c ∈ p_dl n j → c < 128 := by
  intro j
  induction j with
  | zero => intro c hc; simp [p_dl] at hc; omega
  | succ j ih =>
    intro c hc
    simp only [p_dl, List.mem_cons] at hc
    rcases hc with rfl | hc
    · omega
    · exact ih c hc
theorem p_dll (n : Nat) : ∀ j, (p_dl n j).length = j + 1 := by
  intro j
  induction j with
  | zero => rfl
  | succ j ih => simp [p_dl, ih]
theorem p_dNl (n : Nat) : (p_dN n).length ≤ 5 ∧ (n < 256 → (p_dN n).length ≤ 3) := by
  unfold p_dN; rw [p_dll]; unfold p_dk
  constructor
  · repeat' split
    all_goals omega
  · intro h
    repeat' split
    all_goals omega
/-- what has been written: m -/
def pWm (σ : fv_S) (l : List Nat) : Prop := (l.length ≤ 40 ∧ ∀ c, c ∈ l → c < 128) ∧ fv_gi σ 66 = Int32.ofNat l.length ∧ ∀ i (h : i < l.length), fv_gw σ 20 i = Int32.ofNat l[i]
def pSm (σ0 σ : fv_S) : Prop := (∀ k, k ≠ 66 → fv_gi σ k = fv_gi σ0 k) ∧ (∀ k, k ≠ 20 → fv_gw σ k = fv_gw σ0 k) ∧ σ.2.1 = σ0.2.1 ∧ fv_n σ = fv_n σ0
theorem pSm_r (σ : fv_S) : pSm σ σ := ⟨fun _ _ => rfl, fun _ _ => rfl, rfl, rfl⟩
/-- f writes t (its signs) -/
def pTm (σ0 : fv_S) (f : fv_S → Option fv_O) (t : List Nat) : Prop := ∀ σ l, pSm σ0 σ → pWm σ l → l.length + t.length ≤ 40 → ∃ σ', f σ = fv_rv σ' ∧ pSm σ0 σ' ∧ pWm σ' (l ++ t)
theorem tm_rv (σ0 : fv_S) : pTm σ0 (fun σ => fv_rv σ) [] := by
  intro σ l s w _
  exact ⟨σ, rfl, s, by rw [List.append_nil]; exact w⟩
theorem tm_b {σ0 : fv_S} {f g : fv_S → Option fv_O} {t u : List Nat} (hf : pTm σ0 f t) (hg : pTm σ0 g u) : pTm σ0 (fun σ => fv_bv (f σ) (fun σ1 => g σ1) fv_no) (t ++ u) := by
  intro σ l s w hl
  rw [List.length_append] at hl
  obtain ⟨σ1, x1, s1, w1⟩ := hf σ l s w (by omega)
  obtain ⟨σ2, x2, s2, w2⟩ := hg σ1 (l ++ t) s1 w1 (by rw [List.length_append]; omega)
  refine ⟨σ2, ?_, s2, ?_⟩
  · show fv_bv (f σ) (fun σ1 => g σ1) fv_no = _
    rw [x1, fv_bv_rv, x2]
  · rw [← List.append_assoc]; exact w2
theorem tm_w {σ0 : fv_S} {f : fv_S → Option fv_O} {t : List Nat} (hf : pTm σ0 f t) : pTm σ0 (fun σ => fv_bv (f σ) (fun σ1 => fv_rv σ1) fv_no) t := by
  have := tm_b hf (tm_rv σ0)
  rw [List.append_nil] at this; exact this
theorem tm_one (σ0 : fv_S) (c : Nat) (hc : c < 128) : pTm σ0 (fun σ => zX8_one (Int32.ofNat c) σ) [c] := by
  intro σ l s w hl
  simp only [List.length_cons, List.length_nil] at hl
  obtain ⟨w0, w1, w2⟩ := w
  obtain ⟨i1, i2⟩ := p_inN l.length 40 (by omega) (by omega)
  have hse : p_se (Int32.ofNat c) = Int32.ofNat c := by
    have : ∀ c, c < 128 → p_se (Int32.ofNat c) = Int32.ofNat c := by decide +kernel
    exact this c hc
  refine ⟨fv_si (fv_sa σ 20 (Int32.ofNat l.length) (Int32.ofNat c)) 66 (Int32.ofNat (l.length + 1)), ?_, ?_, ?_⟩
  · show zX8_one (Int32.ofNat c) σ = _
    unfold zX8_one
    rw [w1, if_pos i1, p_sucN]
  · obtain ⟨s1, s2, s3, s4⟩ := s
    refine ⟨fun k hk => (if_neg hk).trans (s1 k hk), fun k hk => (if_neg hk).trans (s2 k hk), s3, s4⟩
  · refine ⟨⟨by simp; omega, fun d hd => ?_⟩, ?_, ?_⟩
    · rcases List.mem_append.1 hd with h | h
      · exact w0.2 d h
      · rw [List.mem_singleton.1 h]; exact hc
    · show Int32.ofNat (l.length + 1) = _
      simp
    · intro i hi
      show upd (fv_gw σ 20) (Int32.ofNat l.length).toNatClampNeg (Int32.ofNat c) i = _
      unfold upd
      rw [i2]
      by_cases e : i = l.length
      · subst e; rw [if_pos rfl]; simp
      · have il : i < l.length := by simp at hi; omega
        rw [if_neg e, List.getElem_append_left il]; exact w2 i il
theorem tm_18 (σ0 : fv_S) (N n : Nat) (hn : n < 65536) : ∀ (j m : Nat), j ≤ 4 → j + 2 ≤ m → pTm σ0 (fun σ => zX8_number_18 N m (Int32.ofNat n) (Int32.ofNat (10 ^ j)) σ) (p_dl n j) := by
  have dg : ∀ u : Nat, u < 65536 → 0 < u → (48 : Int32) + ((Int32.ofNat n / Int32.ofNat u) - (Int32.ofNat n / Int32.ofNat u) / (10 : Int32) * (10 : Int32)) = Int32.ofNat (48 + n / u % 10) := by
    intro u hu h0
    have h1 : n / u ≤ n := Nat.div_le_self n u
    rw [p_divN n u hn hu h0, p_modN (n / u) (by omega), Int32.ofNat_add]; rfl
  intro j
  induction j with
  | zero =>
    intro m _ hm
    obtain ⟨m, rfl⟩ : ∃ k, m = k + 2 := ⟨m - 2, by omega⟩
    have e : (fun σ => zX8_number_18 N (m + 2) (Int32.ofNat n) (Int32.ofNat (10 ^ 0)) σ) = (fun σ => fv_bv (zX8_one (Int32.ofNat (48 + n % 10)) σ) (fun σ1 => fv_rv σ1) fv_no) := by
      funext σ
      show zX8_number_18_b _ _ _ _ _ = _
      unfold zX8_number_18_b
      have d1 := dg 1 (by omega) (by omega)
      rw [Nat.div_one] at d1
      rw [if_neg (show ¬ Int32.ofNat (10 ^ 0) ≤ 0 by decide), if_neg (show ¬ Int32.ofNat (10 ^ 0) = 0 by decide), show Int32.ofNat (10 ^ 0) = Int32.ofNat 1 from rfl, d1]
      rfl
    rw [e]
    exact tm_w (tm_one σ0 _ (by omega))
  | succ j ih =>
    intro m hj hm
    obtain ⟨m, rfl⟩ : ∃ k, m = k + 1 := ⟨m - 1, by omega⟩
    have pj : 10 ^ (j + 1) < 65536 ∧ 0 < 10 ^ (j + 1) ∧ 10 ^ (j + 1) / 10 = 10 ^ j := by
      have : j = 0 ∨ j = 1 ∨ j = 2 ∨ j = 3 := by omega
      rcases this with rfl | rfl | rfl | rfl <;> decide
    have e : (fun σ => zX8_number_18 N (m + 1) (Int32.ofNat n) (Int32.ofNat (10 ^ (j + 1))) σ) = (fun σ => fv_bv (zX8_one (Int32.ofNat (48 + n / 10 ^ (j + 1) % 10)) σ) (fun σ1 => zX8_number_18 N m (Int32.ofNat n) (Int32.ofNat (10 ^ j)) σ1) fv_no) := by
      funext σ
      show zX8_number_18_b _ _ _ _ _ = _
      unfold zX8_number_18_b
      have nz : ¬ Int32.ofNat (10 ^ (j + 1)) ≤ 0 := by rw [p_le, p_ofn _ (by omega)]; show ¬ ((10 ^ (j + 1) : Nat) : Int) ≤ 0; omega
      have ne : ¬ Int32.ofNat (10 ^ (j + 1)) = 0 := fun c => nz (by rw [c]; decide)
      rw [if_neg nz, if_neg ne, dg _ pj.1 pj.2.1, show (10 : Int32) = Int32.ofNat 10 from rfl, p_divN _ 10 pj.1 (by omega) (by omega), pj.2.2]
    rw [e]
    exact tm_b (tm_one σ0 _ (by omega)) (ih m (by omega) (by omega))
theorem tm_num (σ0 : fv_S) (N n : Nat) (hN : 10 ≤ N) (hn : n < 65536) : pTm σ0 (fun σ => zX8_number N (Int32.ofNat n) σ) (p_dN n) := by
  have go : ∀ j m, j ≤ 4 → j ≤ p_dk n → 6 ≤ m + j → pTm σ0 (fun σ => zX8_number_2 N m (Int32.ofNat n) (Int32.ofNat (10 ^ j)) σ) (p_dN n) := by
    intro j
    -- from the largest down
    have key : ∀ d j m, 4 - j = d → j ≤ 4 → j ≤ p_dk n → 6 ≤ m + j → pTm σ0 (fun σ => zX8_number_2 N m (Int32.ofNat n) (Int32.ofNat (10 ^ j)) σ) (p_dN n) := by
      intro d
      induction d with
      | zero =>
        intro j m e hj hd hm
        have : j = 4 := by omega
        subst this
        obtain ⟨m, rfl⟩ : ∃ k, m = k + 1 := ⟨m - 1, by omega⟩
        have k4 : p_dk n = 4 := by unfold p_dk at hd ⊢; revert hd; repeat' split
                                   all_goals omega
        have e2 : (fun σ => zX8_number_2 N (m + 1) (Int32.ofNat n) (Int32.ofNat (10 ^ 4)) σ) = (fun σ => zX8_number_18 N N (Int32.ofNat n) (Int32.ofNat (10 ^ 4)) σ) := by
          funext σ
          show zX8_number_2_b _ _ _ _ _ = _
          unfold zX8_number_2_b
          rw [if_neg (show ¬ Int32.ofNat (10 ^ 4) = 0 by decide), p_divN n (10 ^ 4) hn (by decide) (by decide)]
          exact if_pos ((p_leN (n / 10 ^ 4) 9 (by omega) (by omega)).2 (by omega))
        rw [e2]
        unfold p_dN; rw [k4]
        exact tm_18 σ0 N n hn 4 N (by omega) (by omega)
      | succ d ih =>
        intro j m e hj hd hm
        obtain ⟨m, rfl⟩ : ∃ k, m = k + 1 := ⟨m - 1, by omega⟩
        have pj : 10 ^ j < 65536 ∧ 0 < 10 ^ j ∧ 10 ^ j * 10 = 10 ^ (j + 1) := by
          have : j = 0 ∨ j = 1 ∨ j = 2 ∨ j = 3 := by omega
          rcases this with rfl | rfl | rfl | rfl <;> decide
        have ne : ¬ Int32.ofNat (10 ^ j) = 0 := fun c => by
          have h9 : Int32.ofNat (10 ^ j) ≤ 0 := by rw [c]; decide
          rw [p_le, p_ofn _ (by omega)] at h9
          have h8 : ((10 ^ j : Nat) : Int) ≤ 0 := h9
          omega
        have h1 : n / 10 ^ j ≤ n := Nat.div_le_self n _
        have dkj : n / 10 ^ j ≤ 9 ↔ p_dk n = j := by
          unfold p_dk at hd ⊢
          have : j = 0 ∨ j = 1 ∨ j = 2 ∨ j = 3 := by omega
          rcases this with rfl | rfl | rfl | rfl <;> (revert hd; repeat' split) <;> simp <;> omega
        by_cases c : n / 10 ^ j ≤ 9
        · have e2 : (fun σ => zX8_number_2 N (m + 1) (Int32.ofNat n) (Int32.ofNat (10 ^ j)) σ) = (fun σ => zX8_number_18 N N (Int32.ofNat n) (Int32.ofNat (10 ^ j)) σ) := by
            funext σ
            show zX8_number_2_b _ _ _ _ _ = _
            unfold zX8_number_2_b
            rw [if_neg ne, p_divN n (10 ^ j) hn pj.1 pj.2.1]
            exact if_pos ((p_leN (n / 10 ^ j) 9 (by omega) (by omega)).2 c)
          rw [e2]
          unfold p_dN; rw [dkj.1 c]
          exact tm_18 σ0 N n hn j N hj (by omega)
        · have e2 : (fun σ => zX8_number_2 N (m + 1) (Int32.ofNat n) (Int32.ofNat (10 ^ j)) σ) = (fun σ => zX8_number_2 N m (Int32.ofNat n) (Int32.ofNat (10 ^ (j + 1))) σ) := by
            funext σ
            show zX8_number_2_b _ _ _ _ _ = _
            unfold zX8_number_2_b
            rw [if_neg ne, p_divN n (10 ^ j) hn pj.1 pj.2.1, show (10 : Int32) = Int32.ofNat 10 from rfl, ← Int32.ofNat_mul, pj.2.2]
            exact if_neg (fun e3 => c ((p_leN (n / 10 ^ j) 9 (by omega) (by omega)).1 e3))
          rw [e2]
          exact ih (j + 1) m (by omega) (by omega) (by have := mt dkj.2 c; omega) (by omega)
    intro m hj hd hm
    exact key (4 - j) j m rfl hj hd hm
  exact go 0 N (by omega) (by omega) (by omega)
