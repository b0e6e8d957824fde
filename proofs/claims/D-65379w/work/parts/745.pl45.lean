set_option maxRecDepth 100000
set_option maxHeartbeats 4000000
/-! The plain law: the class's tokens, read. -/
theorem x_clb {f : Int32 → fv_S → Option fv_O} {g : Nat → Int32} (k : ∀ x, p_K (f x)) (fin : ∀ b, b < 256 → p_v (f (p_se (Int32.ofNat b)) p_σd) = g b) (f0 : p_v (f (-1) p_σd) = g 10) {B : Nat → Nat} {n : Nat} (hS : qS B n) (p : Nat) (σ : fv_S) : f (qxb B n p) σ = fv_ri (g (B p)) σ := by
  rw [p_Kv (k _) σ]
  unfold qxb
  by_cases c : p < n
  · rw [if_pos c, fin _ (hS.2.1 p)]
  · rw [if_neg c, f0, hS.2.2 p (by omega)]
theorem x_Ksh (x : Int32) : p_K (fun σ => zX4_isShown x σ) := by
  unfold zX4_isShown; repeat (first | exact p_Kr _ | with_reducible apply p_Ki)
theorem x_sh {B : Nat → Nat} {n : Nat} (hS : qS B n) (p : Nat) (σ : fv_S) : zX4_isShown (qxb B n p) σ = fv_ri (q01 (qsh (B p))) σ := x_clb (f := fun x σ => zX4_isShown x σ) (g := fun b => q01 (qsh b)) x_Ksh (by decide +kernel) (by decide +kernel) hS p σ
theorem x_eqb {B : Nat → Nat} {n : Nat} (hS : qS B n) (p c : Nat) (hc : c < 128) (h : c ≠ 10) : qxb B n p = Int32.ofNat c ↔ B p = c := by
  unfold qxb
  by_cases d : p < n
  · rw [if_pos d]
    have : ∀ c, c < 128 → ∀ b, b < 256 → (p_se (Int32.ofNat b) = Int32.ofNat c ↔ b = c) := by decide +kernel
    exact this c hc _ (hS.2.1 p)
  · rw [if_neg d, hS.2.2 p (by omega)]
    have : ∀ c, c < 128 → c ≠ 10 → (-1 = Int32.ofNat c ↔ 10 = c) := by decide +kernel
    exact this c hc h
theorem x_txt {B : Nat → Nat} {n q : Nat} (hS : qS B n) (N : Nat) (hq : q < n) : ∀ (d k m : Nat) (σ : fv_S), n - k = d → q < k → k ≤ n → d + 1 ≤ m → qX B n σ → qX0 q σ → fv_gi σ 1671 = Int32.ofNat (k - q) → qEx n (if B (qrun (fun i => qtx (B i)) n k) = 34 then (3, q, qrun (fun i => qtx (B i)) n k + 1, 0) else (6, q, q, 0)) σ (zX4_scanText_5 N m σ) := by
  have hn := hS.1
  have fin : ∀ (k : Nat) (σ : fv_S), q < k → k ≤ n → qX B n σ → qX0 q σ → fv_gi σ 1671 = Int32.ofNat (k - q) → qEx n (if B k = 34 then (3, q, k + 1, 0) else (6, q, q, 0)) σ (zX4_scanText_56 N σ) := by
    intro k σ h1 h2 h g e
    unfold zX4_scanText_56
    rw [g.2.1, e, ← Int32.ofNat_add, show q + (k - q) = k by omega, x_by hS h k (by omega), fv_bi_ri]
    by_cases c : B k = 34
    · rw [if_neg (show ¬ ¬ qxb B n k = 34 from not_not_intro ((x_eqb hS k 34 (by omega) (by omega)).2 c)), if_pos c]
      refine ⟨_, rfl, qGx_si (qGx_si (qGx_r σ) 1669 3 (by omega)) 1671 _ (by omega), g.2.2, rfl, g.2.1, fun _ _ => ?_, fun e => absurd e (show ¬ (3 : Nat) = 0 by omega), fun e => absurd e (show ¬ (3 : Nat) = 2 by omega)⟩
      show fv_gi σ 1671 + 1 = Int32.ofNat (k + 1 - q)
      rw [e, p_sucN]; congr 1; omega
    · rw [if_pos (show ¬ qxb B n k = 34 from fun e => c ((x_eqb hS k 34 (by omega) (by omega)).1 e)), if_neg c]
      exact ⟨_, rfl, qGx_si (qGx_si (qGx_r σ) 1669 6 (by omega)) 1671 _ (by omega), g.2.2, rfl, g.2.1, fun e => absurd rfl e, fun e => absurd e (show ¬ (6 : Nat) = 0 by omega), fun e => absurd e (show ¬ (6 : Nat) = 2 by omega)⟩
  intro d
  induction d with
  | zero =>
    intro k m σ e h1 h2 hm h g e1
    obtain ⟨m, rfl⟩ : ∃ j, m = j + 1 := ⟨m - 1, by omega⟩
    rw [qrun_n (by omega)]
    show qEx _ _ _ (zX4_scanText_5_b _ _ _)
    unfold zX4_scanText_5_b
    rw [g.2.1, e1, ← Int32.ofNat_add, show q + (k - q) = k by omega, x_by hS h k (by omega), fv_bi_ri, x_sh hS, fv_bi_ri, hS.2.2 k (by omega), if_pos (show q01 (qsh 10) = 0 by decide), ← hS.2.2 k (by omega)]
    exact fin k σ h1 h2 h g e1
  | succ d ih =>
    intro k m σ e h1 h2 hm h g e1
    obtain ⟨m, rfl⟩ : ∃ j, m = j + 1 := ⟨m - 1, by omega⟩
    show qEx _ _ _ (zX4_scanText_5_b _ _ _)
    unfold zX4_scanText_5_b
    rw [g.2.1, e1, ← Int32.ofNat_add, show q + (k - q) = k by omega, x_by hS h k (by omega), fv_bi_ri, x_sh hS, fv_bi_ri]
    cases c : qsh (B k) with
    | false => rw [if_pos (show q01 false = 0 by decide), qrun_e (P := fun i => qtx (B i)) (by show qtx (B k) = false; unfold qtx; rw [c]; rfl)]; exact fin k σ h1 h2 h g e1
    | true =>
      obtain ⟨i1, i2⟩ := p_inN k 6000 (by omega) (by omega)
      have hv : fv_ga σ 14 (Int32.ofNat k) = p_se (Int32.ofNat (B k)) := by
        show fv_gw σ 14 (Int32.ofNat k).toNatClampNeg = _; rw [i2, (h.2 k (by omega)).1]
      have hc : ∀ b, b < 256 → (p_se (Int32.ofNat b) = 34 ↔ b = 34) := by decide +kernel
      have hc := hc _ (hS.2.1 k)
      rw [if_neg (show ¬ q01 true = 0 by decide), g.2.1, e1, ← Int32.ofNat_add, show q + (k - q) = k by omega, if_pos i1, hv]
      by_cases c2 : B k = 34
      · rw [if_pos (hc.2 c2), qrun_e (P := fun i => qtx (B i)) (by show qtx (B k) = false; unfold qtx; rw [c2]; rfl)]; exact fin k σ h1 h2 h g e1
      · rw [if_neg (fun e => c2 (hc.1 e)), qrun_s (P := fun i => qtx (B i)) (by omega) (by show qtx (B k) = true; unfold qtx; rw [c]; simp [c2]), p_sucN, show k - q + 1 = k + 1 - q by omega]
        have f := qGx_si (qGx_r σ) 1671 (Int32.ofNat (k + 1 - q)) (by omega)
        exact qEx_t f (ih (k + 1) m _ (by omega) (by omega) (by omega) (by omega) (qX_f h f) g rfl)
theorem x_sgn {B : Nat → Nat} {n q : Nat} (hS : qS B n) (hq : q < n) (σ : fv_S) (h : qX B n σ) (g : qX0 q σ) : qEx n (if qsh (B (q + 1)) = true ∧ B (q + 2) = 39 then (2, q, q + 3, B (q + 1)) else (6, q, q, 0)) σ (zX4_scanSign σ) := by
  have hn := hS.1
  have f : ∀ s, qGx σ (fv_si σ 1669 s) := fun s => qGx_si (qGx_r σ) 1669 s (by omega)
  have e38 : ∀ s, zX4_scanSign_38 s σ = fv_rv (fv_si (fv_si (fv_si σ 1669 s) 1672 (qxb B n (q + 1))) 1671 3) := by
    intro s
    unfold zX4_scanSign_38
    rw [g.2.1, p_sucN, x_by hS (qX_f h (f s)) (q + 1) (by omega), fv_bi_ri]
  have bad : qEx n (6, q, q, 0) σ (zX4_scanSign_36 σ) := by
    unfold zX4_scanSign_36
    rw [e38]
    exact ⟨_, rfl, qGx_si (qGx_si (f 6) 1672 _ (by omega)) 1671 _ (by omega), g.2.2, rfl, g.2.1, fun e => absurd rfl e, fun e => absurd e (show ¬ (6 : Nat) = 0 by omega), fun e => absurd e (show ¬ (6 : Nat) = 2 by omega)⟩
  unfold zX4_scanSign
  rw [g.2.1, p_sucN, x_by hS h (q + 1) (by omega), fv_bi_ri, x_sh hS, fv_bi_ri]
  cases c : qsh (B (q + 1)) with
  | false => rw [if_pos (show q01 false = 0 by decide), if_neg (fun e => absurd e.1 (by decide))]; exact bad
  | true =>
    rw [if_neg (show ¬ q01 true = 0 by decide), g.2.1, show Int32.ofNat q + 2 = Int32.ofNat (q + 2) from (Int32.ofNat_add q 2).symm, x_by hS h (q + 2) (by omega), fv_bi_ri]
    by_cases c2 : B (q + 2) = 39
    · rw [if_neg (show ¬ ¬ qxb B n (q + 2) = 39 from not_not_intro ((x_eqb hS (q + 2) 39 (by omega) (by omega)).2 c2)), if_pos ⟨rfl, c2⟩, e38]
      have h2 : q + 2 < n := by
        apply Decidable.byContradiction; intro c; rw [hS.2.2 (q + 2) (by omega)] at c2; omega
      refine ⟨_, rfl, qGx_si (qGx_si (f 2) 1672 _ (by omega)) 1671 _ (by omega), g.2.2, rfl, g.2.1, fun _ _ => ?_, fun e => absurd e (show ¬ (2 : Nat) = 0 by omega), fun _ => ?_⟩
      · show (3 : Int32) = Int32.ofNat (q + 3 - q)
        rw [show q + 3 - q = 3 by omega]; rfl
      · show qxb B n (q + 1) = Int32.ofNat (B (q + 1))
        unfold qxb; rw [if_pos (by omega)]
        have : ∀ b, b < 256 → qsh b = true → p_se (Int32.ofNat b) = Int32.ofNat b := by decide +kernel
        exact this _ (hS.2.1 _) c
    · rw [if_pos (show ¬ qxb B n (q + 2) = 39 from fun e => c2 ((x_eqb hS (q + 2) 39 (by omega) (by omega)).1 e)), if_neg (fun e => c2 e.2)]; exact bad
theorem x_71 {B : Nat → Nat} {n q : Nat} (hS : qS B n) (N : Nat) : ∀ (d k m : Nat) (σ : fv_S), n - k = d → k ≤ n → d + 1 ≤ m → qX B n σ → fv_gi σ 1667 = Int32.ofNat k → fv_gi σ 1668 = 1 → qEx n (0, qrun (fun i => !(B i == 10)) n k, q, 0) σ (zX4_scan_71 N m σ) := by
  have hn := hS.1
  have fin : ∀ (k : Nat) (σ : fv_S), k ≤ n → qX B n σ → fv_gi σ 1667 = Int32.ofNat k → fv_gi σ 1668 = 1 → qEx n (0, k, q, 0) σ (zX4_scan_109 N σ) := by
    intro k σ h2 h g e
    unfold zX4_scan_109 zX4_scan_135
    rw [g, h.1]
    by_cases c : k = n
    · rw [if_neg (show ¬ ¬ Int32.ofNat k = Int32.ofNat n from not_not_intro (by rw [c]))]
      refine ⟨_, rfl, qGx_si (qGx_si (qGx_r σ) 1670 _ (by omega)) 1669 _ (by omega), e, ?_, rfl, fun _ e => absurd rfl e, fun _ => g, fun e => absurd e (show ¬ (0 : Nat) = 2 by omega)⟩
      show (0 : Int32) = (if (0 : Nat) = 0 then (if k < n then 10 else 0) else _)
      rw [if_pos rfl, if_neg (by omega)]
    · rw [if_pos (show ¬ Int32.ofNat k = Int32.ofNat n from fun e => c ((p_eqN k n (by omega) (by omega)).1 e))]
      refine ⟨_, rfl, qGx_si (qGx_si (qGx_r σ) 1670 _ (by omega)) 1669 _ (by omega), e, ?_, rfl, fun _ e => absurd rfl e, fun _ => g, fun e => absurd e (show ¬ (0 : Nat) = 2 by omega)⟩
      show (10 : Int32) = (if (0 : Nat) = 0 then (if k < n then 10 else 0) else _)
      rw [if_pos rfl, if_pos (by omega)]
  intro d
  induction d with
  | zero =>
    intro k m σ e h2 hm h g e1
    obtain ⟨m, rfl⟩ : ∃ j, m = j + 1 := ⟨m - 1, by omega⟩
    rw [qrun_n (by omega)]
    show qEx _ _ _ (zX4_scan_71_b _ _ _)
    unfold zX4_scan_71_b
    rw [h.1, g, if_pos ((p_leN n k (by omega) (by omega)).2 (by omega))]
    exact fin k σ h2 h g e1
  | succ d ih =>
    intro k m σ e h2 hm h g e1
    obtain ⟨m, rfl⟩ : ∃ j, m = j + 1 := ⟨m - 1, by omega⟩
    obtain ⟨i1, i2⟩ := p_inN k 6000 (by omega) (by omega)
    have hv : fv_ga σ 14 (Int32.ofNat k) = p_se (Int32.ofNat (B k)) := by
      show fv_gw σ 14 (Int32.ofNat k).toNatClampNeg = _; rw [i2, (h.2 k (by omega)).1]
    have hc : ∀ b, b < 256 → (p_se (Int32.ofNat b) = 10 ↔ b = 10) := by decide +kernel
    have hc := hc _ (hS.2.1 k)
    show qEx _ _ _ (zX4_scan_71_b _ _ _)
    unfold zX4_scan_71_b
    rw [h.1, g, if_neg (fun c => by have := (p_leN n k (by omega) (by omega)).1 c; omega), if_pos i1, hv]
    by_cases c : B k = 10
    · rw [if_pos (hc.2 c), qrun_e (P := fun i => !(B i == 10)) (by show (!(B k == 10)) = false; rw [c]; rfl)]; exact fin k σ h2 h g e1
    · rw [if_neg (fun e => c (hc.1 e)), qrun_s (P := fun i => !(B i == 10)) (by omega) (by show (!(B k == 10)) = true; simp [c]), p_sucN]
      have f := qGx_si (qGx_r σ) 1667 (Int32.ofNat (k + 1)) (by omega)
      exact qEx_t f (ih (k + 1) m _ (by omega) (by omega) (by omega) (qX_f h f) rfl e1)
theorem x_ixc (N : Nat) (c : Int32) (σ : fv_S) : ∀ (d i m : Nat), 13 - i = d → i ≤ 13 → d + 1 ≤ m → ∃ r, zJ5_indexOfChar_7 N m 101 13 c (Int32.ofNat i) σ = fv_ri r σ ∧ ((0 : Int32) ≤ r ↔ ∃ j, i ≤ j ∧ j < 13 ∧ fv_sch 101 (Int32.ofNat j) = c) := by
  have e13 : fv_sl0 101 = 13 := by decide +kernel
  intro d
  induction d with
  | zero =>
    intro i m e hi hm
    obtain ⟨m, rfl⟩ : ∃ j, m = j + 1 := ⟨m - 1, by omega⟩
    have : i = 13 := by omega
    subst this
    refine ⟨-1, ?_, ⟨fun e => absurd e (by decide), fun ⟨j, h1, h2, _⟩ => by omega⟩⟩
    show zJ5_indexOfChar_7_b _ _ _ _ _ _ _ = _
    unfold zJ5_indexOfChar_7_b
    rw [if_pos (show (13 : Int32) ≤ Int32.ofNat 13 by decide)]
  | succ d ih =>
    intro i m e hi hm
    obtain ⟨m, rfl⟩ : ∃ j, m = j + 1 := ⟨m - 1, by omega⟩
    obtain ⟨i1, i2⟩ := p_inN i 13 (by omega) (by omega)
    have eb : zJ5_indexOfChar_7 N (m + 1) 101 13 c (Int32.ofNat i) σ = if fv_sch 101 (Int32.ofNat i) = c then fv_ri (Int32.ofNat i) σ else zJ5_indexOfChar_7 N m 101 13 c (Int32.ofNat (i + 1)) σ := by
      show zJ5_indexOfChar_7_b _ _ _ _ _ _ _ = _
      unfold zJ5_indexOfChar_7_b
      rw [if_neg (show ¬ (13 : Int32) ≤ Int32.ofNat i from fun c => by have := (p_leN 13 i (by omega) (by omega)).1 c; omega), e13, if_pos ⟨by omega, i1⟩, p_sucN]
      by_cases c1 : fv_sch 101 (Int32.ofNat i) = c
      · rw [if_pos c1, if_neg (not_not_intro c1)]
      · rw [if_neg c1, if_pos c1]
    rw [eb]
    by_cases c1 : fv_sch 101 (Int32.ofNat i) = c
    · rw [if_pos c1]
      exact ⟨_, rfl, ⟨fun _ => ⟨i, Nat.le_refl _, by omega, c1⟩, fun _ => (p_leN 0 i (by omega) (by omega)).2 (by omega)⟩⟩
    · rw [if_neg c1]
      obtain ⟨r, x, y⟩ := ih (i + 1) m (by omega) (by omega) (by omega)
      refine ⟨r, x, y.trans ⟨fun ⟨j, h1, h2, h3⟩ => ⟨j, by omega, h2, h3⟩, fun ⟨j, h1, h2, h3⟩ => ⟨j, ?_, h2, h3⟩⟩⟩
      by_cases c2 : j = i
      · subst c2; exact absurd h3 c1
      · omega
/-- whether a sign is one of the signs -/
theorem x_ix {N : Nat} (hN : 14 ≤ N) (b : Nat) (hb : b < 256) (h0 : ¬ p_se (Int32.ofNat (qcap b)) < 0) (σ : fv_S) : ∃ r, zJ4_indexOf N 101 (p_se (Int32.ofNat (qcap b))) σ = fv_ri r σ ∧ ((0 : Int32) ≤ r ↔ qsg b = true) := by
  have e13 : fv_sln 101 = 13 := by decide +kernel
  obtain ⟨r, x, y⟩ := x_ixc N ((Int32.toInt8 (p_se (Int32.ofNat (qcap b)))).toInt32) σ 13 0 N rfl (by omega) (by omega)
  have c1 : ∀ b, b < 256 → ¬ p_se (Int32.ofNat (qcap b)) < 0 → ¬ (255 : Int32) < p_se (Int32.ofNat (qcap b)) ∧ ((∃ j, 0 ≤ j ∧ j < 13 ∧ fv_sch 101 (Int32.ofNat j) = (Int32.toInt8 (p_se (Int32.ofNat (qcap b)))).toInt32) ↔ qsg b = true) := by
    have c0 : ∀ b, b < 256 → ¬ p_se (Int32.ofNat (qcap b)) < 0 → ¬ (255 : Int32) < p_se (Int32.ofNat (qcap b)) ∧ ((∃ j, j < 13 ∧ fv_sch 101 (Int32.ofNat j) = (Int32.toInt8 (p_se (Int32.ofNat (qcap b)))).toInt32) ↔ qsg b = true) := by decide +kernel
    intro b hb h
    obtain ⟨a, c⟩ := c0 b hb h
    exact ⟨a, ⟨fun ⟨j, _, h⟩ => c.1 ⟨j, h⟩, fun h => by obtain ⟨j, h⟩ := c.2 h; exact ⟨j, by omega, h⟩⟩⟩
  obtain ⟨d1, d2⟩ := c1 b hb h0
  refine ⟨r, ?_, y.trans d2⟩
  unfold zJ4_indexOf
  rw [if_pos (show (101 : Nat) < 102 by omega)]
  have e2 : zJ4_indexOf_2 N 101 (p_se (Int32.ofNat (qcap b))) 0 σ = fv_ri r σ := by
    unfold zJ4_indexOf_2
    rw [if_pos (show (101 : Nat) < 102 by omega)]
    have e3 : zJ4_isLatin1 101 σ = fv_ri 1 σ := by
      unfold zJ4_isLatin1
      rw [if_neg (by decide), if_pos (by omega), if_neg (by decide)]
    rw [e3, fv_bi_ri, if_neg (show ¬ (1 : Int32) = 0 by decide), if_pos (show (101 : Nat) < 102 by omega), if_pos (show (101 : Nat) < 102 by omega)]
    have e4 : zJ4_length 101 σ = fv_ri 13 σ := by rw [x_len 101 (by omega)]; exact congrArg (fun v => fv_ri v σ) e13
    rw [e4, fv_bi_ri]
    have e5 : zJ5_indexOf N 101 (p_se (Int32.ofNat (qcap b))) 0 13 σ = fv_ri r σ := by
      unfold zJ5_indexOf zJ5_canEncode zJ3_max zJ3_min_2 zJ5_indexOfChar
      rw [if_neg h0, if_neg d1, fv_bi_ri, if_pos (show ¬ (1 : Int32) = 0 by decide), if_neg (show ¬ (0 : Int32) < 0 by decide), fv_bi_ri, if_pos (show (101 : Nat) < 102 by omega), e13, if_neg (show ¬ (13 : Int32) < 13 by decide), fv_bi_ri, if_pos (show (0 : Int32) < 13 by decide)]
      rw [show zJ5_indexOfChar_7 N N 101 13 ((Int32.toInt8 (p_se (Int32.ofNat (qcap b)))).toInt32) 0 σ = fv_ri r σ from x, fv_bi_ri]
    rw [e5, fv_bi_ri]
  rw [e2, fv_bi_ri]
theorem x_sn {B : Nat → Nat} {n q : Nat} (hS : qS B n) (hq : q < n) (N : Nat) (hN : 14 ≤ N) (σ : fv_S) (h : qX B n σ) (g : qX0 q σ) : qEx n (if (B q = 60 ∨ B q = 62) ∧ B (q + 1) = B q then (if B q = 60 then 4 else 5, q, q + 2, 0) else if qsg (B q) then (B q, q, q + 1, 0) else (6, q, q, 0)) σ (if qxs B n q = 60 then zX4_scan_242 N (qxs B n q) σ else if ¬ qxs B n q = 62 then zX4_scan_260 N (qxs B n q) σ else zX4_scan_242 N (qxs B n q) σ) := by
  have hn := hS.1
  have ex : qxs B n q = p_se (Int32.ofNat (qcap (B q))) := by unfold qxs; rw [if_pos hq]
  have e260 : qEx n (if qsg (B q) then (B q, q, q + 1, 0) else (6, q, q, 0)) σ (zX4_scan_260 N (qxs B n q) σ) := by
    have bad : qEx n (6, q, q, 0) σ (zX4_scan_279 N (qxs B n q) 0 σ) := by
      unfold zX4_scan_279 zX4_scan_284 zX4_scan_314 zX4_scan_327
      rw [if_neg (show ¬ (1 : Int32) = 0 by decide), if_pos rfl]
      exact ⟨_, rfl, qGx_si (qGx_si (qGx_r σ) 1669 _ (by omega)) 1671 _ (by omega), g.2.2, rfl, g.2.1, fun e => absurd rfl e, fun e => absurd e (show ¬ (6 : Nat) = 0 by omega), fun e => absurd e (show ¬ (6 : Nat) = 2 by omega)⟩
    unfold zX4_scan_260 zX4_scan_261
    rw [if_neg (show ¬ ¬ (0 : Int32) = 0 from not_not_intro rfl)]
    by_cases c0 : qxs B n q < 0
    · rw [if_pos c0]
      have : ∀ b, b < 256 → p_se (Int32.ofNat (qcap b)) < 0 → qsg b = false := by decide +kernel
      rw [this _ (hS.2.1 q) (ex ▸ c0), if_neg (by decide)]; exact bad
    · rw [if_neg c0, if_pos (show (101 : Nat) < 102 by omega)]
      obtain ⟨r, x, y⟩ := x_ix hN (B q) (hS.2.1 q) (ex ▸ c0) σ
      rw [ex, x, fv_bi_ri, ← ex]
      by_cases c : qsg (B q) = true
      · rw [if_pos (y.2 c), if_pos c]
        unfold zX4_scan_283 zX4_scan_284 zX4_scan_314 zX4_scan_327
        rw [if_pos rfl, if_pos rfl, if_pos rfl]
        have : ∀ b, b < 256 → qsg b = true → p_se (Int32.ofNat (qcap b)) = Int32.ofNat b ∧ 6 < b := by decide +kernel
        obtain ⟨t1, t2⟩ := this _ (hS.2.1 q) c
        refine ⟨_, rfl, qGx_si (qGx_si (qGx_r σ) 1669 _ (by omega)) 1671 _ (by omega), g.2.2, ?_, g.2.1, fun _ _ => ?_, fun e => absurd e (show ¬ B q = 0 by omega), fun e => absurd e (show ¬ B q = 2 by omega)⟩
        · show qxs B n q = (if B q = 0 then _ else Int32.ofNat (B q))
          rw [ex, t1, if_neg (by omega)]
        · show (1 : Int32) = Int32.ofNat (q + 1 - q)
          rw [show q + 1 - q = 1 by omega]; rfl
      · rw [if_neg (fun e => c (y.1 e)), if_neg c]; exact bad
  have e242 : (B q = 60 ∨ B q = 62) → qEx n (if (B q = 60 ∨ B q = 62) ∧ B (q + 1) = B q then (if B q = 60 then 4 else 5, q, q + 2, 0) else if qsg (B q) then (B q, q, q + 1, 0) else (6, q, q, 0)) σ (zX4_scan_242 N (qxs B n q) σ) := by
    intro c
    unfold zX4_scan_242
    rw [g.1, p_sucN, x_sg hS h (q + 1) (by omega), fv_bi_ri]
    by_cases c2 : B (q + 1) = B q
    · rw [if_pos ⟨c, c2⟩]
      have hq1 : q + 1 < n := by
        apply Decidable.byContradiction; intro c3; rw [hS.2.2 (q + 1) (by omega)] at c2; omega
      rw [if_neg (show ¬ ¬ qxs B n (q + 1) = qxs B n q from not_not_intro (by unfold qxs; rw [if_pos hq1, if_pos hq, c2]))]
      unfold zX4_scan_261 zX4_scan_283 zX4_scan_284
      rw [if_pos (show ¬ (1 : Int32) = 0 by decide), if_pos rfl, if_neg (show ¬ (1 : Int32) = 0 by decide)]
      unfold zX4_scan_314 zX4_scan_327
      rcases c with c | c
      · rw [if_neg (show ¬ ¬ qxs B n q = 60 from not_not_intro ((x_eqc hS q 60 (by omega) rfl).2 c)), if_neg (show ¬ (1 : Int32) = 0 by decide), if_pos c]
        refine ⟨_, rfl, qGx_si (qGx_si (qGx_r σ) 1669 _ (by omega)) 1671 _ (by omega), g.2.2, rfl, g.2.1, fun _ _ => ?_, fun e => absurd e (show ¬ (4 : Nat) = 0 by omega), fun e => absurd e (show ¬ (4 : Nat) = 2 by omega)⟩
        show (2 : Int32) = Int32.ofNat (q + 2 - q)
        rw [show q + 2 - q = 2 by omega]; rfl
      · rw [if_pos (show ¬ qxs B n q = 60 from fun e => by have := (x_eqc hS q 60 (by omega) rfl).1 e; omega), if_neg (show ¬ (1 : Int32) = 0 by decide), if_neg (by omega)]
        refine ⟨_, rfl, qGx_si (qGx_si (qGx_r σ) 1669 _ (by omega)) 1671 _ (by omega), g.2.2, rfl, g.2.1, fun _ _ => ?_, fun e => absurd e (show ¬ (5 : Nat) = 0 by omega), fun e => absurd e (show ¬ (5 : Nat) = 2 by omega)⟩
        show (2 : Int32) = Int32.ofNat (q + 2 - q)
        rw [show q + 2 - q = 2 by omega]; rfl
    · rw [if_neg (fun e => c2 e.2), if_pos (show ¬ qxs B n (q + 1) = qxs B n q from fun e => c2 (x_eqp hS q (q + 1) hq e c))]
      exact e260
  by_cases c : B q = 60
  · rw [if_pos (show qxs B n q = 60 from (x_eqc hS q 60 (by omega) rfl).2 c)]; exact e242 (Or.inl c)
  · rw [if_neg (show ¬ qxs B n q = 60 from fun e => c ((x_eqc hS q 60 (by omega) rfl).1 e))]
    by_cases c2 : B q = 62
    · rw [if_neg (show ¬ ¬ qxs B n q = 62 from not_not_intro ((x_eqc hS q 62 (by omega) rfl).2 c2))]; exact e242 (Or.inr c2)
    · rw [if_pos (show ¬ qxs B n q = 62 from fun e => c2 ((x_eqc hS q 62 (by omega) rfl).1 e)), if_neg (fun e => by omega)]; exact e260
