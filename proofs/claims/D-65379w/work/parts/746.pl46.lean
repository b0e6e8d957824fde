set_option maxRecDepth 100000
set_option maxHeartbeats 4000000
/-! The plain law: the class reads a token; where tokens lie. -/
theorem x_scan {B : Nat → Nat} {n : Nat} (hS : qS B n) (N : Nat) (hN : 7000 ≤ N) (p : Nat) (hp : p ≤ n) (σ : fv_S) (h : qX B n σ) (g : fv_gi σ 1667 = Int32.ofNat p) : qEx n (qT B n p) σ (zX4_scan N σ) := by
  have hn := hS.1
  unfold zX4_scan zX4_skipBlanks
  obtain ⟨σ1, x1, f1, g1, k1⟩ := x_bk hS N (n - p) p N σ rfl hp (by omega) h g
  rw [x1, fv_bv_rv, g1]
  unfold qT
  have hq := (qrun_le (fun i => qbl (B i)) n p).2 hp
  generalize hqe : qrun (fun i => qbl (B i)) n p = q at g1 hq ⊢
  refine qEx_t (qGx_si (qGx_si (qGx_si f1 1670 (Int32.ofNat q) (by omega)) 1671 0 (by omega)) 1668 1 (by omega)) ?_
  have f2 := qGx_si (qGx_si (qGx_si f1 1670 (Int32.ofNat q) (by omega)) 1671 0 (by omega)) 1668 1 (by omega)
  have h2 := qX_f h f2
  have g2 : qX0 q (fv_si (fv_si (fv_si σ1 1670 (Int32.ofNat q)) 1671 0) 1668 1) := ⟨g1, rfl, rfl⟩
  have l2 : fv_gi (fv_si (fv_si (fv_si σ1 1670 (Int32.ofNat q)) 1671 0) 1668 1) 1671 = Int32.ofNat 0 := rfl
  generalize fv_si (fv_si (fv_si σ1 1670 (Int32.ofNat q)) 1671 0) 1668 1 = σ2 at h2 g2 l2 ⊢
  rw [x_sg hS h2 q (by omega), fv_bi_ri, g2.1, h2.1]
  unfold qTq
  by_cases cn : q = n
  · have hb := hS.2.2 q (by omega)
    rw [if_neg (show ¬ ¬ Int32.ofNat q = Int32.ofNat n from not_not_intro (by rw [cn])), if_pos hb]
    refine ⟨_, rfl, qGx_si (qGx_r σ2) 1669 _ (by omega), g2.2.2, ?_, g2.2.1, fun _ e => absurd rfl e, fun _ => g2.1, fun e => absurd e (show ¬ (0 : Nat) = 2 by omega)⟩
    show (0 : Int32) = (if (0 : Nat) = 0 then (if q < n then 10 else 0) else _)
    rw [if_pos rfl, if_neg (by omega)]
  have hqn : q < n := by omega
  have ex : qxs B n q = p_se (Int32.ofNat (qcap (B q))) := by unfold qxs; rw [if_pos hqn]
  rw [if_pos (show ¬ Int32.ofNat q = Int32.ofNat n from fun e => cn ((p_eqN q n (by omega) (by omega)).1 e))]
  have e10 : qxs B n q = 10 ↔ B q = 10 := by
    rw [ex]
    have : ∀ b, b < 256 → (p_se (Int32.ofNat (qcap b)) = 10 ↔ b = 10) := by decide +kernel
    exact this _ (hS.2.1 q)
  by_cases c10 : B q = 10
  · rw [if_neg (not_not_intro (e10.2 c10)), if_pos c10]
    refine ⟨_, rfl, qGx_si (qGx_r σ2) 1669 _ (by omega), g2.2.2, ?_, g2.2.1, fun _ e => absurd rfl e, fun _ => g2.1, fun e => absurd e (show ¬ (0 : Nat) = 2 by omega)⟩
    show (10 : Int32) = (if (0 : Nat) = 0 then (if q < n then 10 else 0) else _)
    rw [if_pos rfl, if_pos (by omega)]
  rw [if_pos (fun e => c10 (e10.1 e)), if_neg c10]
  have ec : ∀ c, c < 128 → qnl c = true → (qxs B n q = Int32.ofNat c ↔ B q = c) := fun c hc h => x_eqc hS q c hc h
  by_cases c59 : B q = 59
  · rw [if_neg (show ¬ ¬ qxs B n q = 59 from not_not_intro ((ec 59 (by omega) rfl).2 c59)), if_pos c59]
    exact x_71 hS N (n - q) q N σ2 rfl (by omega) (by omega) h2 g2.1 g2.2.2
  rw [if_pos (show ¬ qxs B n q = 59 from fun e => c59 ((ec 59 (by omega) rfl).1 e)), if_neg c59, x_st hS, fv_bi_ri]
  cases cs : qst (B q) with
  | true =>
    rw [if_neg (show ¬ q01 true = 0 by decide), if_pos rfl]
    refine qEx_b ?_
    unfold zX4_scanName
    have hnp : qnp (B q) = true := by unfold qnp; rw [cs]; rfl
    rw [show (if 12 < qrun (fun i => qnp (B i)) n q - q then ((6, q, q, 0) : qTok) else (1, q, (if qnm B q (qrun (fun i => qnp (B i)) n q - q) = [65, 70] ∧ B (qrun (fun i => qnp (B i)) n q) = 39 then qrun (fun i => qnp (B i)) n q + 1 else qrun (fun i => qnp (B i)) n q), 0)) = qTm B q (qrun (fun i => qnp (B i)) n q) from rfl, qrun_s (P := fun i => qnp (B i)) hqn hnp]
    have f3 := qGx_si (qGx_r σ2) 1671 1 (by omega)
    refine qEx_t f3 (x_nam hS N hqn (n - (q + 1)) (q + 1) N _ rfl (by omega) (by omega) (by omega) (qX_f h2 f3) g2 ?_)
    rw [show q + 1 - q = 1 by omega]; rfl
  | false =>
    rw [if_pos (show q01 false = 0 by decide), if_neg (by decide), x_dg hS, fv_bi_ri]
    cases cd : qdg (B q) with
    | true =>
      rw [if_neg (show ¬ q01 true = 0 by decide), if_pos rfl]
      refine qEx_b ?_
      unfold zX4_scanNumber qTn
      have f3 := qGx_si (qGx_r σ2) 1671 0 (by omega)
      have := x_nu (q := q) (s := q) (r := 10) (by omega) hS N (by omega) (by omega) (n - q) q 0 0 N (fv_si σ2 1671 0) rfl (by omega) (by omega) (by omega) (by omega) (by omega) (qX_f h2 f3) g2 (by rw [show q - q = 0 by omega]; rfl)
      rw [show q - q = 0 by omega] at this
      exact qEx_t f3 this
    | false =>
      have num : ∀ r, (r = 2 ∨ r = 10 ∨ r = 16) → qEx n (qTn B n r q (q + 1)) σ2 (zX4_scan_198 N 1 (Int32.ofNat r) σ2) := by
        intro r hr
        unfold zX4_scan_198
        refine qEx_b ?_
        unfold zX4_scanNumber qTn
        have f3 := qGx_si (qGx_r σ2) 1671 1 (by omega)
        have := x_nu (q := q) (s := q + 1) (r := r) hr hS N (by omega) (by omega) (n - (q + 1)) (q + 1) 0 0 N (fv_si σ2 1671 1) rfl (by omega) (by omega) (by omega) (by omega) (by omega) (qX_f h2 f3) g2 (by rw [show q + 1 - q = 1 by omega]; rfl)
        rw [show q + 1 - q = 1 by omega] at this
        exact qEx_t f3 this
      rw [if_pos (show q01 false = 0 by decide), if_neg (by decide)]
      by_cases c36 : B q = 36
      · have e36 : qxs B n q = 36 := (ec 36 (by omega) rfl).2 c36
        rw [if_pos e36, if_pos c36]
        unfold zX4_scan_184
        rw [if_neg (not_not_intro e36)]
        exact num 16 (by omega)
      have e36 : ¬ qxs B n q = 36 := fun e => c36 ((ec 36 (by omega) rfl).1 e)
      rw [if_neg e36, if_neg c36]
      by_cases c37 : B q = 37
      · rw [if_neg (show ¬ ¬ qxs B n q = 37 from not_not_intro ((ec 37 (by omega) rfl).2 c37)), if_pos c37]
        unfold zX4_scan_184
        rw [if_pos e36]
        exact num 2 (by omega)
      rw [if_pos (show ¬ qxs B n q = 37 from fun e => c37 ((ec 37 (by omega) rfl).1 e)), if_neg c37]
      by_cases c39 : B q = 39
      · rw [if_neg (show ¬ ¬ qxs B n q = 39 from not_not_intro ((ec 39 (by omega) rfl).2 c39)), if_pos c39]
        exact qEx_b (x_sgn hS hqn σ2 h2 g2)
      rw [if_pos (show ¬ qxs B n q = 39 from fun e => c39 ((ec 39 (by omega) rfl).1 e)), if_neg c39]
      by_cases c34 : B q = 34
      · rw [if_neg (show ¬ ¬ qxs B n q = 34 from not_not_intro ((ec 34 (by omega) rfl).2 c34)), if_pos c34]
        refine qEx_b ?_
        unfold zX4_scanText
        have f3 := qGx_si (qGx_r σ2) 1671 1 (by omega)
        refine qEx_t f3 (x_txt hS N hqn (n - (q + 1)) (q + 1) N _ rfl (by omega) (by omega) (by omega) (qX_f h2 f3) g2 ?_)
        rw [show q + 1 - q = 1 by omega]; rfl
      rw [if_pos (show ¬ qxs B n q = 34 from fun e => c34 ((ec 34 (by omega) rfl).1 e)), if_neg c34]
      exact x_sn hS hqn N (by omega) σ2 h2 g2
/-- where a token lies -/
def qTb (n p : Nat) (t : qTok) : Prop := p ≤ t.2.1 ∧ t.2.1 ≤ n ∧ t.2.2.1 ≤ n ∧ (t.1 ≠ 0 → t.1 ≠ 6 → t.2.1 < t.2.2.1) ∧ (t.1 ≤ 6 ∨ qsg t.1 = true) ∧ (t.1 = 2 → t.2.2.2 ≤ 65535)
theorem qnum_le (B : Nat → Nat) (n r : Nat) : ∀ (f s v : Nat), s ≤ (qdgo B r f s v).1 ∧ (qdgo B r f s v).1 ≤ s + f := by
  intro f
  induction f with
  | zero => intro s v; exact ⟨Nat.le_refl _, Nat.le_refl _⟩
  | succ f ih =>
    intro s v
    show s ≤ (if qwo (B s) < r then _ else (s, v)).1 ∧ (if qwo (B s) < r then _ else (s, v)).1 ≤ _
    by_cases c : qwo (B s) < r
    · rw [if_pos c]; have := ih (s + 1) (if 65535 < v then v else v * r + qwo (B s)); omega
    · rw [if_neg c]; exact ⟨Nat.le_refl _, by show s ≤ _; omega⟩
theorem qTn_b {B : Nat → Nat} {n r p q s : Nat} (h1 : p ≤ q) (h2 : q ≤ s) (h3 : s ≤ n) : qTb n p (qTn B n r q s) := by
  unfold qTn
  have := qnum_le B n r (n - s) s 0
  have e : qnum B n r s 0 = qdgo B r (n - s) s 0 := rfl
  rw [e]
  generalize qdgo B r (n - s) s 0 = w at this ⊢
  by_cases c : w.1 = s ∨ 65535 < w.2
  · rw [if_pos c]; exact ⟨h1, by show q ≤ n; omega, by show q ≤ n; omega, fun _ e => absurd rfl e, Or.inl (by show 6 ≤ 6; omega), fun e => absurd e (show ¬ (6 : Nat) = 2 by omega)⟩
  · rw [if_neg c]; exact ⟨h1, by show q ≤ n; omega, by show w.1 ≤ n; omega, fun _ _ => by show q < w.1; omega, Or.inl (by show 2 ≤ 6; omega), fun _ => by show w.2 ≤ 65535; omega⟩
theorem qT_b {B : Nat → Nat} {n : Nat} (hS : qS B n) (p : Nat) (hp : p ≤ n) : qTb n p (qT B n p) := by
  unfold qT
  obtain ⟨hq1, hq2⟩ := qrun_le (fun i => qbl (B i)) n p
  have hq2 := hq2 hp
  generalize qrun (fun i => qbl (B i)) n p = q at hq1 hq2 ⊢
  have bad : qTb n p (6, q, q, 0) := ⟨hq1, hq2, hq2, fun _ e => absurd rfl e, Or.inl (Nat.le_refl _), fun e => absurd e (show ¬ (6 : Nat) = 2 by omega)⟩
  have lt : ∀ i, B i ≠ 10 → i < n := fun i h => by
    apply Decidable.byContradiction; intro c; exact h (hS.2.2 i (by omega))
  unfold qTq
  by_cases c10 : B q = 10
  · rw [if_pos c10]; exact ⟨hq1, hq2, hq2, fun e => absurd rfl e, Or.inl (by show 0 ≤ 6; omega), fun e => absurd e (show ¬ (0 : Nat) = 2 by omega)⟩
  rw [if_neg c10]
  have hqn := lt q c10
  by_cases c59 : B q = 59
  · rw [if_pos c59]
    obtain ⟨r1, r2⟩ := qrun_le (fun i => !(B i == 10)) n q
    exact ⟨by show p ≤ qrun _ n q; omega, r2 hq2, hq2, fun e => absurd rfl e, Or.inl (by show 0 ≤ 6; omega), fun e => absurd e (show ¬ (0 : Nat) = 2 by omega)⟩
  rw [if_neg c59]
  by_cases cs : qst (B q) = true
  · rw [if_pos cs]
    obtain ⟨r1, r2⟩ := qrun_le (fun i => qnp (B i)) n (q + 1)
    have r2 := r2 (by omega)
    rw [qrun_s (P := fun i => qnp (B i)) hqn (by show qnp (B q) = true; unfold qnp; rw [cs]; rfl)]
    generalize qrun (fun i => qnp (B i)) n (q + 1) = k at r1 r2 ⊢
    by_cases c : 12 < k - q
    · rw [if_pos c]; exact bad
    · rw [if_neg c]
      by_cases c2 : qnm B q (k - q) = [65, 70] ∧ B k = 39
      · rw [if_pos c2]
        have := lt k (by rw [c2.2]; omega)
        exact ⟨hq1, hq2, by show k + 1 ≤ n; omega, fun _ _ => by show q < k + 1; omega, Or.inl (by show 1 ≤ 6; omega), fun e => absurd e (show ¬ (1 : Nat) = 2 by omega)⟩
      · rw [if_neg c2]
        exact ⟨hq1, hq2, r2, fun _ _ => by show q < k; omega, Or.inl (by show 1 ≤ 6; omega), fun e => absurd e (show ¬ (1 : Nat) = 2 by omega)⟩
  rw [if_neg cs]
  by_cases cd : qdg (B q) = true
  · rw [if_pos cd]; exact qTn_b hq1 (by omega) hq2
  rw [if_neg cd]
  by_cases c36 : B q = 36
  · rw [if_pos c36]; exact qTn_b hq1 (by omega) (by omega)
  rw [if_neg c36]
  by_cases c37 : B q = 37
  · rw [if_pos c37]; exact qTn_b hq1 (by omega) (by omega)
  rw [if_neg c37]
  by_cases c39 : B q = 39
  · rw [if_pos c39]
    by_cases c : qsh (B (q + 1)) = true ∧ B (q + 2) = 39
    · rw [if_pos c]
      have := lt (q + 2) (by rw [c.2]; omega)
      exact ⟨hq1, hq2, by show q + 3 ≤ n; omega, fun _ _ => by show q < q + 3; omega, Or.inl (by show 2 ≤ 6; omega), fun _ => by have := hS.2.1 (q + 1); show B (q + 1) ≤ 65535; omega⟩
    · rw [if_neg c]; exact bad
  rw [if_neg c39]
  by_cases c34 : B q = 34
  · rw [if_pos c34]
    obtain ⟨r1, r2⟩ := qrun_le (fun i => qtx (B i)) n (q + 1)
    generalize qrun (fun i => qtx (B i)) n (q + 1) = k at r1 r2 ⊢
    by_cases c : B k = 34
    · rw [if_pos c]
      have := lt k (by rw [c]; omega)
      exact ⟨hq1, hq2, by show k + 1 ≤ n; omega, fun _ _ => by show q < k + 1; omega, Or.inl (by show 3 ≤ 6; omega), fun e => absurd e (show ¬ (3 : Nat) = 2 by omega)⟩
    · rw [if_neg c]; exact bad
  rw [if_neg c34]
  by_cases c : (B q = 60 ∨ B q = 62) ∧ B (q + 1) = B q
  · rw [if_pos c]
    have := lt (q + 1) (by omega)
    refine ⟨hq1, hq2, by show q + 2 ≤ n; omega, fun _ _ => by show q < q + 2; omega, Or.inl ?_, fun e => ?_⟩
    · show (if B q = 60 then 4 else 5) ≤ 6
      by_cases c : B q = 60
      · rw [if_pos c]; omega
      · rw [if_neg c]; omega
    · have e' : (if B q = 60 then 4 else 5) = 2 := e
      by_cases c : B q = 60
      · rw [if_pos c] at e'; omega
      · rw [if_neg c] at e'; omega
  rw [if_neg c]
  by_cases cg : qsg (B q) = true
  · rw [if_pos cg]
    have : ∀ b, b < 256 → qsg b = true → 6 < b := by decide +kernel
    have := this _ (hS.2.1 q) cg
    exact ⟨hq1, hq2, by show q + 1 ≤ n; omega, fun _ _ => by show q < q + 1; omega, Or.inr cg, fun e => absurd e (show ¬ B q = 2 by omega)⟩
  · rw [if_neg cg]; exact bad
