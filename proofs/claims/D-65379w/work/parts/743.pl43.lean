set_option maxRecDepth 100000
set_option maxHeartbeats 4000000
/-! The plain law: the model's tokens, names; next. -/
def qnz (l : List Nat) : Prop := ∀ c, c ∈ l → 1 ≤ c ∧ c < 256
theorem qpk_inj : ∀ (d : Nat) (a b : List Nat), a.length + b.length = d → qnz a → qnz b → qpk a = qpk b → a = b := by
  intro d
  induction d using Nat.strongRecOn with
  | ind d ih =>
    intro a b hd ha hb h
    rcases List.eq_nil_or_concat a with rfl | ⟨a', x, rfl⟩
    · rcases List.eq_nil_or_concat b with rfl | ⟨b', y, rfl⟩
      · rfl
      · rw [List.concat_eq_append, qpk_s] at h
        have := hb y (by simp)
        have e : qpk [] = 0 := rfl
        omega
    · have hx := ha x (by simp)
      rcases List.eq_nil_or_concat b with rfl | ⟨b', y, rfl⟩
      · rw [List.concat_eq_append, qpk_s] at h
        have e : qpk [] = 0 := rfl
        omega
      · have hy := hb y (by simp)
        rw [List.concat_eq_append, List.concat_eq_append, qpk_s, qpk_s] at h
        have e1 : x = y := by omega
        have e2 : qpk a' = qpk b' := by omega
        subst e1
        simp only [List.concat_eq_append, List.length_append, List.length_cons, List.length_nil] at hd
        have := ih (a'.length + b'.length) (by omega) a' b' rfl (fun c hc => ha c (by simp [hc])) (fun c hc => hb c (by simp [hc])) e2
        rw [this]
theorem qpk_bd (l : List Nat) (h : qnz l) : qpk l < 256 ^ l.length := by
  have : ∀ (d : Nat) (l : List Nat), l.length = d → qnz l → qpk l < 256 ^ d := by
    intro d
    induction d with
    | zero => intro l e _; rw [List.length_eq_zero_iff.1 e]; exact Nat.zero_lt_one
    | succ d ih =>
      intro l e hl
      rcases List.eq_nil_or_concat l with rfl | ⟨l', x, rfl⟩
      · simp at e
      · have hx := hl x (by simp)
        rw [List.concat_eq_append, qpk_s, Nat.pow_succ]
        have := ih l' (by simp at e; exact e) (fun c hc => hl c (by simp [hc]))
        omega
  exact this _ l rfl h
theorem p_o64 (a b : Nat) (ha : a < 2 ^ 64) (hb : b < 2 ^ 64) (h : Int64.ofNat a = Int64.ofNat b) : a = b := by
  have := congrArg (fun x => x.toBitVec.toNat) h
  have t : ∀ m, m < 2 ^ 64 → (Int64.ofNat m).toBitVec.toNat = m := by
    intro m hm
    show (BitVec.ofNat 64 m).toNat = m
    rw [BitVec.toNat_ofNat]; exact Nat.mod_eq_of_lt hm
  simp only [t a ha, t b hb] at this
  exact this
/-- a name's word says which name of at most eight signs it is -/
theorem qwd_inj {a b : List Nat} (ha : qnz a) (hb : qnz b) (lb : b.length ≤ 8) (b0 : b ≠ []) (h : qwd a = qwd b) : a = b := by
  unfold qwd at h
  rw [if_pos lb] at h
  have kb := qpk_bd b hb
  have : 256 ^ b.length ≤ 256 ^ 8 := Nat.pow_le_pow_right (by omega) lb
  by_cases c : a.length ≤ 8
  · rw [if_pos c] at h
    have ka := qpk_bd a ha
    have : 256 ^ a.length ≤ 256 ^ 8 := Nat.pow_le_pow_right (by omega) c
    exact qpk_inj _ a b rfl ha hb (p_o64 _ _ (by omega) (by omega) h)
  · rw [if_neg c] at h
    have e := p_o64 0 (qpk b) (by omega) (by omega) h
    have := qpk_inj _ [] b rfl (fun c hc => absurd hc (by simp)) hb e
    exact absurd this.symm b0
theorem qnm_nz {B : Nat → Nat} (hB : ∀ i, B i < 256) : ∀ k q, (∀ i, q ≤ i → i < q + k → 1 ≤ B i) → qnz (qnm B q k) := by
  intro k
  induction k with
  | zero => intro q _ c hc; exact absurd hc (by simp [qnm])
  | succ k ih =>
    intro q h c hc
    rcases List.mem_cons.1 hc with rfl | hc
    · refine ⟨?_, qcap_lt _ (hB q)⟩
      have := h q (by omega) (by omega)
      unfold qcap; split <;> omega
    · exact ih (q + 1) (fun i h1 h2 => h i (by omega) (by omega)) c hc
theorem qnp_1 {b : Nat} (h : qnp b = true) : 39 < b := by
  unfold qnp qst qdg qcap at h
  simp at h
  split at h <;> omega
/-- the token that a name gives -/
def qTm (B : Nat → Nat) (q k : Nat) : qTok := if 12 < k - q then (6, q, q, 0) else (1, q, (if qnm B q (k - q) = [65, 70] ∧ B k = 39 then k + 1 else k), 0)
theorem m_98 {B : Nat → Nat} {n q k : Nat} (hS : qS B n) (hq : q ≤ k) (hk : k ≤ 6100) (hl : k - q ≤ 12) (N : Nat) (hb : ∀ i, q ≤ i → i < k → 1 ≤ B i) {τ : fv_S} (h : qM B n τ) (g2 : fv_gi τ 3 = 2) (g3 : fv_gi τ 4 = Int32.ofNat q) (g4 : fv_gl τ 7 = qwd (qnm B q (k - q))) : qE0 B (qTm B q k) τ (zX8_name_98 N (Int32.ofNat k) τ) := by
  have hn := hS.1
  have nz : qnz (qnm B q (k - q)) := qnm_nz hS.2.1 _ _ (fun i h1 h2 => hb i h1 (by omega))
  unfold zX8_name_98 qTm
  rw [if_neg (by omega)]
  have fin : ∀ (st : Nat) (τ1 : fv_S), qFt τ τ1 → fv_gi τ1 3 = 2 → fv_gi τ1 4 = Int32.ofNat q → fv_gl τ1 7 = qwd (qnm B q (st - q)) → qE0 B (1, q, st, 0) τ (zX8_name_129 N (Int32.ofNat st) τ1) := by
    intro st τ1 f a b c
    exact ⟨fv_si τ1 2 (Int32.ofNat st), rfl, qFt_si f 2 _ (by omega), rfl, a, b, fun e => absurd e (show ¬ (1 : Nat) = 2 by omega), fun e => absurd e (show ¬ ((1 : Nat) = 4 ∨ (1 : Nat) = 5 ∨ 6 < 1) by omega), c⟩
  have ew : lg_cmp (fv_gl τ 7) 16710 = 0 ↔ qnm B q (k - q) = [65, 70] := by
    rw [lg_eq, g4]
    constructor
    · intro e; exact qwd_inj nz (fun c hc => by simp at hc; omega) (by decide) (by decide) (e.trans (by decide))
    · intro e; rw [e]; decide
  by_cases c : qnm B q (k - q) = [65, 70]
  · rw [if_neg (not_not_intro (ew.2 c)), m_by hS h k (by omega), fv_bi_ri]
    have e39 := p_eqN (B k) 39 (by have := hS.2.1 k; omega) (by omega)
    by_cases c2 : B k = 39
    · rw [if_pos ⟨c, c2⟩, if_neg (show ¬ ¬ Int32.ofNat (B k) = 39 from not_not_intro (e39.2 c2)), p_sucN]
      refine fin (k + 1) _ (qFt_sl (qFt_r τ) _) g2 g3 ?_
      have kl : k - q = 2 := by have := qnm_len B (k - q) q; rw [c] at this; exact this.symm
      rw [show k + 1 - q = (k - q) + 1 by omega, qnm_s, c, show q + (k - q) = k by omega, c2]
      rfl
    · rw [if_neg (fun e => c2 e.2), if_pos (show ¬ Int32.ofNat (B k) = 39 from fun e => c2 (e39.1 e))]
      exact fin k τ (qFt_r τ) g2 g3 g4
  · rw [if_neg (fun e => c e.1), if_pos (fun e => c (ew.1 e))]
    exact fin k τ (qFt_r τ) g2 g3 g4
theorem m_59 {B : Nat → Nat} {n q k : Nat} (hS : qS B n) (hq : q ≤ k) (hk : k ≤ 6100) (hl : k - q ≤ 12) (N : Nat) (hb : ∀ i, q ≤ i → i < k → 1 ≤ B i) : ∀ (d i m : Nat) (τ : fv_S), k - i = d → q ≤ i → i ≤ k → d + 1 ≤ m → qM B n τ → fv_gi τ 3 = 2 → fv_gi τ 4 = Int32.ofNat q → fv_gl τ 7 = (if k - q ≤ 8 then Int64.ofNat (qpk (qnm B q (i - q))) else 0) → qE0 B (qTm B q k) τ (zX8_name_59 N m (Int32.ofNat k) (Int32.ofNat (k - q)) (Int32.ofNat i) τ) := by
  have hn := hS.1
  have wl : qwd (qnm B q (k - q)) = if k - q ≤ 8 then Int64.ofNat (qpk (qnm B q (k - q))) else 0 := by unfold qwd; rw [qnm_len]
  intro d
  induction d with
  | zero =>
    intro i m τ e h1 h2 hm h g2 g3 g4
    obtain ⟨m, rfl⟩ : ∃ j, m = j + 1 := ⟨m - 1, by omega⟩
    show qE0 _ _ _ (zX8_name_59_b _ _ _ _ _ _)
    unfold zX8_name_59_b
    rw [if_pos ((p_leN k i (by omega) (by omega)).2 (by omega))]
    refine m_98 hS hq hk hl N hb h g2 g3 ?_
    rw [g4, wl, show i = k by omega]
  | succ d ih =>
    intro i m τ e h1 h2 hm h g2 g3 g4
    obtain ⟨m, rfl⟩ : ∃ j, m = j + 1 := ⟨m - 1, by omega⟩
    show qE0 _ _ _ (zX8_name_59_b _ _ _ _ _ _)
    unfold zX8_name_59_b
    rw [if_neg (fun c => by have := (p_leN k i (by omega) (by omega)).1 c; omega)]
    by_cases c : 8 < k - q
    · rw [if_pos (show (8 : Int32) < Int32.ofNat (k - q) from (p_ltN 8 (k - q) (by omega) (by omega)).2 c)]
      refine m_98 hS hq hk hl N hb h g2 g3 ?_
      rw [g4, wl, if_neg (by omega), if_neg (by omega)]
    · rw [if_neg (show ¬ (8 : Int32) < Int32.ofNat (k - q) from fun e => by have := (p_ltN 8 (k - q) (by omega) (by omega)).1 e; omega)]
      rw [m_by hS h i (by omega), fv_bi_ri, m_cap _ (hS.2.1 i), fv_bi_ri, p_sucN, g4, if_pos (by omega)]
      have bd := qpk_lt B hS.2.1 q (i - q)
      have : 256 ^ (i - q) ≤ 256 ^ 7 := Nat.pow_le_pow_right (by omega) (by omega)
      rw [p_sh8 _ _ (by omega) (qcap_lt _ (hS.2.1 i))]
      have ee : qpk (qnm B q (i - q)) * 256 + qcap (B i) = qpk (qnm B q (i + 1 - q)) := by
        rw [show i + 1 - q = (i - q) + 1 by omega, qnm_s, qpk_s, show q + (i - q) = i by omega]
      rw [ee]
      have f := qFt_sl (qFt_r τ) (Int64.ofNat (qpk (qnm B q (i + 1 - q))))
      refine qE0_t f (ih (i + 1) m _ (by omega) (by omega) (by omega) (by omega) (qM_f h f) g2 g3 ?_)
      rw [if_pos (by omega)]; rfl
theorem m_name {B : Nat → Nat} {n q : Nat} (hS : qS B n) (N : Nat) (hN : 7000 ≤ N) {τ : fv_S} (h : qM B n τ) (g : qB0 q τ) : ∀ (d k m : Nat), n - k = d → q ≤ k → k ≤ 6100 → d + 1 ≤ m → (∀ i, q ≤ i → i < k → 1 ≤ B i) → qE0 B (qTm B q (qrun (fun i => qnp (B i)) n k)) τ (zX8_name_5 N m (Int32.ofNat k) τ) := by
  have hn := hS.1
  have fin : ∀ k, q ≤ k → k ≤ 6100 → (∀ i, q ≤ i → i < k → 1 ≤ B i) → qE0 B (qTm B q k) τ (if (Int32.ofNat k - fv_gi τ 2) ≤ (12 : Int32) then zX8_name_59 N N (Int32.ofNat k) (Int32.ofNat k - fv_gi τ 2) (fv_gi τ 2) (fv_si τ 3 2) else fv_rv τ) := by
    intro k h1 h2 hb
    rw [g.1, show Int32.ofNat k - Int32.ofNat q = Int32.ofNat (k - q) from (Int32.ofNat_sub k q h1).symm]
    by_cases c : k - q ≤ 12
    · rw [if_pos (show Int32.ofNat (k - q) ≤ (12 : Int32) from (p_leN (k - q) 12 (by omega) (by omega)).2 c)]
      have f := qFt_si (qFt_r τ) 3 2 (by omega)
      refine qE0_t f (m_59 hS h1 h2 c N hb (k - q) q N _ rfl (by omega) (by omega) (by omega) (qM_f h f) rfl g.2.2.1 ?_)
      rw [show q - q = 0 by omega]
      show fv_gl τ 7 = _
      rw [g.2.2.2]; split <;> rfl
    · rw [if_neg (show ¬ Int32.ofNat (k - q) ≤ (12 : Int32) from fun e => c ((p_leN (k - q) 12 (by omega) (by omega)).1 e))]
      unfold qTm; rw [if_pos (by omega)]
      exact ⟨τ, rfl, qFt_r τ, qB0_bad g⟩
  intro d
  induction d with
  | zero =>
    intro k m e h1 h2 hm hb
    obtain ⟨m, rfl⟩ : ∃ j, m = j + 1 := ⟨m - 1, by omega⟩
    rw [qrun_n (by omega)]
    show qE0 _ _ _ (zX8_name_5_b _ _ _ _)
    unfold zX8_name_5_b
    rw [m_by hS h k (by omega), fv_bi_ri, m_st _ (hS.2.1 k), fv_bi_ri, hS.2.2 k (by omega), if_neg (show ¬ ¬ q01 (qst 10) = 0 by decide), m_by hS h k (by omega), fv_bi_ri, m_dg _ (hS.2.1 k), fv_bi_ri, hS.2.2 k (by omega), if_pos (show q01 (qdg 10) = 0 by decide)]
    exact fin k h1 h2 hb
  | succ d ih =>
    intro k m e h1 h2 hm hb
    obtain ⟨m, rfl⟩ : ∃ j, m = j + 1 := ⟨m - 1, by omega⟩
    show qE0 _ _ _ (zX8_name_5_b _ _ _ _)
    unfold zX8_name_5_b
    rw [m_by hS h k (by omega), fv_bi_ri, m_st _ (hS.2.1 k), fv_bi_ri]
    have go : qnp (B k) = true → qE0 B (qTm B q (qrun (fun i => qnp (B i)) n k)) τ (zX8_name_5 N m (Int32.ofNat k + 1) τ) := by
      intro c
      rw [qrun_s (P := fun i => qnp (B i)) (by omega) c, p_sucN]
      refine ih (k + 1) m (by omega) (by omega) (by omega) (by omega) (fun i h1 h2 => ?_)
      by_cases e : i = k
      · subst e; have := qnp_1 c; omega
      · exact hb i h1 (by omega)
    cases c1 : qst (B k) with
    | true => rw [if_pos (show ¬ q01 true = 0 by decide)]; exact go (by unfold qnp; rw [c1]; rfl)
    | false =>
      rw [if_neg (show ¬ ¬ q01 false = 0 by decide), m_by hS h k (by omega), fv_bi_ri, m_dg _ (hS.2.1 k), fv_bi_ri]
      cases c2 : qdg (B k) with
      | true => rw [if_neg (show ¬ q01 true = 0 by decide)]; exact go (by unfold qnp; rw [c1, c2]; rfl)
      | false =>
        rw [if_pos (show q01 false = 0 by decide), qrun_e (by show qnp (B k) = false; unfold qnp; rw [c1, c2]; rfl)]
        exact fin k h1 h2 hb
theorem m_tq {B : Nat → Nat} {n q : Nat} (hS : qS B n) (hq : q ≤ 6050) (N : Nat) (hN : 7000 ≤ N) {τ : fv_S} (h : qM B n τ) (g : qB0 q τ) (k0 : fv_S → Option fv_O) (τ1 : fv_S) (e1 : fv_sl (fv_si (fv_si τ1 4 (fv_gi τ1 2)) 3 0) 7 0 = τ) (h1 : qM B n τ1) (g1 : fv_gi τ1 2 = Int32.ofNat q) (hb : qbl (B q) = false) : qE B (qTq B n q) τ (zX8_next_0_b N k0 τ1) := by
  have hn := hS.1
  have hb' := hS.2.1 q
  have f4 := qFt_si (qFt_r τ1) 4 (Int32.ofNat q) (by omega)
  unfold zX8_next_0_b qTq
  rw [g1, m_by hS h1 q (by omega), fv_bi_ri, m_bl _ hb', fv_bi_ri, hb, if_pos (show q01 false = 0 by decide), g1, m_by hS (qM_f h1 f4) q (by omega), fv_bi_ri]
  rw [g1] at e1
  rw [e1]
  have ec : ∀ c, c < 256 → (Int32.ofNat (B q) = Int32.ofNat c ↔ B q = c) := fun c hc => p_eqN (B q) c (by omega) (by omega)
  have en : qE B (0, qrun (fun i => !(B i == 10)) n q, q, 0) τ (zX8_next_67 N τ) := by
    unfold zX8_next_67
    have f := qFt_si (qFt_r τ) 3 1 (by omega)
    exact qE_t f (m_72 hS N q (by omega) (n - q) q N _ rfl (by omega) (by omega) (qM_f h f) g.1 rfl g.2.2.1 g.2.2.2)
  by_cases c10 : B q = 10
  · rw [if_pos (show Int32.ofNat (B q) = 10 from (ec 10 (by omega)).2 c10), if_pos c10]
    rw [qrun_e (by rw [c10]; rfl)] at en; exact en
  rw [if_neg (show ¬ Int32.ofNat (B q) = 10 from fun e => c10 ((ec 10 (by omega)).1 e)), if_neg c10]
  by_cases c59 : B q = 59
  · rw [if_neg (show ¬ ¬ Int32.ofNat (B q) = 59 from not_not_intro ((ec 59 (by omega)).2 c59)), if_pos c59]; exact en
  rw [if_pos (show ¬ Int32.ofNat (B q) = 59 from fun e => c59 ((ec 59 (by omega)).1 e)), if_neg c59, m_st _ hb', fv_bi_ri]
  cases cs : qst (B q) with
  | true =>
    rw [if_neg (show ¬ q01 true = 0 by decide), if_pos rfl]
    refine qE_b (t := qTm B q (qrun (fun i => qnp (B i)) n q)) ?_
    unfold zX8_name; rw [g.1]
    exact m_name hS N hN h g (n - q) q N rfl (by omega) (by omega) (by omega) (fun i h1 h2 => by omega)
  | false =>
    rw [if_pos (show q01 false = 0 by decide), if_neg (by decide), m_dg _ hb', fv_bi_ri]
    cases cd : qdg (B q) with
    | true =>
      rw [if_neg (show ¬ q01 true = 0 by decide), if_pos rfl]
      refine qE_b ?_
      unfold zX8_digits; rw [g.1]
      exact m_dig hS (by omega) (by omega) (by omega) N h g (n - q) q 0 N rfl (by omega) (by omega) (by omega) (by omega)
    | false =>
      rw [if_pos (show q01 false = 0 by decide), if_neg (by decide)]
      by_cases c36 : B q = 36
      · rw [if_neg (show ¬ ¬ Int32.ofNat (B q) = 36 from not_not_intro ((ec 36 (by omega)).2 c36)), if_pos c36]
        refine qE_b ?_
        unfold zX8_digits; rw [g.1, p_sucN]
        exact m_dig hS (by omega) (by omega) (by omega) N h g (n - (q + 1)) (q + 1) 0 N rfl (by omega) (by omega) (by omega) (by omega)
      rw [if_pos (show ¬ Int32.ofNat (B q) = 36 from fun e => c36 ((ec 36 (by omega)).1 e)), if_neg c36]
      by_cases c37 : B q = 37
      · rw [if_neg (show ¬ ¬ Int32.ofNat (B q) = 37 from not_not_intro ((ec 37 (by omega)).2 c37)), if_pos c37]
        refine qE_b ?_
        unfold zX8_digits; rw [g.1, p_sucN]
        exact m_dig hS (by omega) (by omega) (by omega) N h g (n - (q + 1)) (q + 1) 0 N rfl (by omega) (by omega) (by omega) (by omega)
      rw [if_pos (show ¬ Int32.ofNat (B q) = 37 from fun e => c37 ((ec 37 (by omega)).1 e)), if_neg c37]
      by_cases c39 : B q = 39
      · rw [if_neg (show ¬ ¬ Int32.ofNat (B q) = 39 from not_not_intro ((ec 39 (by omega)).2 c39)), if_pos c39, g.1, p_sucN, m_by hS h (q + 1) (by omega), fv_bi_ri]
        have hb1 := hS.2.1 (q + 1)
        by_cases d1 : B (q + 1) < 32
        · rw [if_pos (show Int32.ofNat (B (q + 1)) < 32 from (p_ltN _ 32 (by omega) (by omega)).2 d1), if_neg (fun e => by unfold qsh at e; simp at e; omega)]
          exact m_321 (qB0_bad g)
        rw [if_neg (show ¬ Int32.ofNat (B (q + 1)) < 32 from fun e => d1 ((p_ltN _ 32 (by omega) (by omega)).1 e))]
        by_cases d2 : 126 < B (q + 1)
        · rw [if_pos (show 126 < Int32.ofNat (B (q + 1)) from (p_ltN 126 _ (by omega) (by omega)).2 d2), if_neg (fun e => by unfold qsh at e; simp at e; omega)]
          exact m_321 (qB0_bad g)
        rw [if_neg (show ¬ 126 < Int32.ofNat (B (q + 1)) from fun e => d2 ((p_ltN 126 _ (by omega) (by omega)).1 e)), g.1, show Int32.ofNat q + 2 = Int32.ofNat (q + 2) from (Int32.ofNat_add q 2).symm, m_by hS h (q + 2) (by omega), fv_bi_ri]
        have e39 := p_eqN (B (q + 2)) 39 (by have := hS.2.1 (q + 2); omega) (by omega)
        by_cases d3 : B (q + 2) = 39
        · rw [if_neg (show ¬ ¬ Int32.ofNat (B (q + 2)) = 39 from not_not_intro (e39.2 d3)), if_pos ⟨by unfold qsh; simp; omega, d3⟩, g.1, show Int32.ofNat q + 3 = Int32.ofNat (q + 3) from (Int32.ofNat_add q 3).symm]
          refine qE_t (qFt_si (qFt_si (qFt_si (qFt_r τ) 3 3 (by omega)) 6 (Int32.ofNat (B (q + 1))) (by omega)) 2 (Int32.ofNat (q + 3)) (by omega)) (m_321 ?_)
          exact ⟨rfl, rfl, g.2.2.1, fun _ => rfl, fun e => absurd e (show ¬ ((2 : Nat) = 4 ∨ (2 : Nat) = 5 ∨ 6 < 2) by omega), g.2.2.2⟩
        · rw [if_pos (show ¬ Int32.ofNat (B (q + 2)) = 39 from fun e => d3 (e39.1 e)), if_neg (fun e => d3 e.2)]
          exact m_321 (qB0_bad g)
      rw [if_pos (show ¬ Int32.ofNat (B q) = 39 from fun e => c39 ((ec 39 (by omega)).1 e)), if_neg c39]
      by_cases c34 : B q = 34
      · rw [if_neg (show ¬ ¬ Int32.ofNat (B q) = 34 from not_not_intro ((ec 34 (by omega)).2 c34)), if_pos c34, g.1, p_sucN]
        exact m_txt hS N h g (n - (q + 1)) (q + 1) N rfl (by omega) (by omega)
      rw [if_pos (show ¬ Int32.ofNat (B q) = 34 from fun e => c34 ((ec 34 (by omega)).1 e)), if_neg c34]
      exact qE_b (m_sign hS (by omega) h g)
theorem m_next {B : Nat → Nat} {n : Nat} (hS : qS B n) (N : Nat) (hN : 7000 ≤ N) : ∀ (d p m : Nat) (τ : fv_S), n - p = d → p ≤ 6050 → d + 1 ≤ m → qM B n τ → fv_gi τ 2 = Int32.ofNat p → qE B (qT B n p) τ (zX8_next_0 N m τ) := by
  have hn := hS.1
  have fin : ∀ (p m : Nat) (τ : fv_S), p ≤ 6050 → qM B n τ → fv_gi τ 2 = Int32.ofNat p → qbl (B p) = false → qE B (qTq B n p) τ (zX8_next_0 N (m + 1) τ) := by
    intro p m τ hp h h2 hb
    have f := qFt_sl (qFt_si (qFt_si (qFt_r τ) 4 (fv_gi τ 2) (by omega)) 3 0 (by omega)) 0
    exact qE_t f (m_tq hS hp N hN (qM_f h f) ⟨h2, rfl, h2, rfl⟩ (zX8_next_0 N m) τ rfl h h2 hb)
  intro d
  induction d with
  | zero =>
    intro p m τ e hp hm h h2
    obtain ⟨m, rfl⟩ : ∃ j, m = j + 1 := ⟨m - 1, by omega⟩
    unfold qT; rw [qrun_n (by omega)]
    exact fin p m τ hp h h2 (by rw [hS.2.2 p (by omega)]; rfl)
  | succ d ih =>
    intro p m τ e hp hm h h2
    obtain ⟨m, rfl⟩ : ∃ j, m = j + 1 := ⟨m - 1, by omega⟩
    cases c : qbl (B p) with
    | false => unfold qT; rw [qrun_e (P := fun i => qbl (B i)) c]; exact fin p m τ hp h h2 c
    | true =>
      have e1 : qT B n p = qT B n (p + 1) := by unfold qT; rw [qrun_s (P := fun i => qbl (B i)) (by omega) c]
      rw [e1]
      show qE _ _ _ (zX8_next_0_b _ _ _)
      unfold zX8_next_0_b
      rw [h2, m_by hS h p (by omega), fv_bi_ri, m_bl _ (hS.2.1 p), fv_bi_ri, c, if_neg (show ¬ q01 true = 0 by decide), h2, p_sucN]
      have f := qFt_si (qFt_r τ) 2 (Int32.ofNat (p + 1)) (by omega)
      exact qE_t f (ih (p + 1) m _ (by omega) (by omega) (by omega) (qM_f h f) rfl)
