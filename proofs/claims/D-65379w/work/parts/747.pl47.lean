set_option maxRecDepth 100000
set_option maxHeartbeats 4000000
/-! The plain law: what the class asks of its tokens. -/
def xAt (B : Nat → Nat) (n p : Nat) (σ : fv_S) : Prop := p ≤ n ∧ ((fv_gi σ 1668 = 0 ∧ fv_gi σ 1667 = Int32.ofNat p) ∨ qXt n (qT B n p) σ)
abbrev qnb (B : Nat → Nat) (n p : Nat) : Nat := qrun (fun i => qbl (B i)) n p
def qna (B : Nat → Nat) (t : qTok) : List Nat := qnm B t.2.1 (t.2.2.1 - t.2.1)
def qwr (t : qTok) : Nat := if t.1 = 6 then 1 else 2
theorem qsg_lt {c : Nat} (h : qsg c = true) : 6 < c ∧ c < 128 ∧ c ≠ 10 := by
  unfold qsg at h; simp at h; omega
theorem qxk_ne {n p : Nat} {t : qTok} (hb : qTb n p t) (c : Nat) (h0 : c ≠ 0) (h10 : c ≠ 10) (hc : c < 256) : qxk n t = Int32.ofNat c ↔ t.1 = c := by
  unfold qxk
  by_cases c0 : t.1 = 0
  · rw [if_pos c0]
    have : ∀ c, c < 256 → c ≠ 0 → c ≠ 10 → (0 : Int32) ≠ Int32.ofNat c ∧ (10 : Int32) ≠ Int32.ofNat c := by decide +kernel
    obtain ⟨a, b⟩ := this c hc h0 h10
    constructor
    · intro e; split at e
      · exact absurd e b
      · exact absurd e a
    · intro e; omega
  · rw [if_neg c0]
    have : t.1 < 256 := by
      rcases hb.2.2.2.2.1 with h | h
      · omega
      · have := qsg_lt h; omega
    exact p_eqN _ _ (by omega) (by omega)
theorem qxk_end {n p : Nat} {t : qTok} (hb : qTb n p t) : qxk n t = 0 ∨ qxk n t = 10 ↔ t.1 = 0 := by
  unfold qxk
  by_cases c0 : t.1 = 0
  · rw [if_pos c0]
    refine ⟨fun _ => c0, fun _ => ?_⟩
    split
    · exact Or.inr rfl
    · exact Or.inl rfl
  · rw [if_neg c0]
    have : t.1 < 256 ∧ t.1 ≠ 10 := by
      rcases hb.2.2.2.2.1 with h | h
      · omega
      · have := qsg_lt h; omega
    constructor
    · rintro (e | e)
      · exact (p_eqN t.1 0 (by omega) (by omega)).1 e
      · have := (p_eqN t.1 10 (by omega) (by omega)).1 e; omega
    · intro e; omega
theorem x_look {B : Nat → Nat} {n p : Nat} (hS : qS B n) {N : Nat} (hN : 7000 ≤ N) {σ : fv_S} (h : qX B n σ) (a : xAt B n p σ) : ∃ σ', zX4_look N σ = fv_ri (qxk n (qT B n p)) σ' ∧ qGx σ σ' ∧ qXt n (qT B n p) σ' := by
  unfold zX4_look
  obtain ⟨hp, ⟨a1, a2⟩ | a⟩ := a
  · obtain ⟨σ', x, f, k⟩ := x_scan hS N hN p hp σ h a2
    rw [a1, if_neg (not_not_intro rfl), x, fv_bv_rv, k.2.1]
    exact ⟨σ', rfl, f, k⟩
  · rw [a.1, if_pos (by decide), a.2.1]
    exact ⟨σ, rfl, qGx_r σ, a⟩
theorem xAt_of {B : Nat → Nat} {n p : Nat} {σ : fv_S} (hp : p ≤ n) (k : qXt n (qT B n p) σ) : xAt B n p σ := ⟨hp, Or.inr k⟩
theorem x_pass {B : Nat → Nat} {n p : Nat} {t : qTok} (hb : qTb n p t) {σ : fv_S} (k : qXt n t σ) (h0 : t.1 ≠ 0) (h6 : t.1 ≠ 6) : ∃ σ', zX4_pass σ = fv_rv σ' ∧ qGx σ σ' ∧ xAt B n t.2.2.1 σ' ∧ fv_gi σ' 1667 = Int32.ofNat t.2.2.1 ∧ fv_gi σ' 1668 = 0 := by
  unfold zX4_pass
  have e : Int32.ofNat t.2.1 + Int32.ofNat (t.2.2.1 - t.2.1) = Int32.ofNat t.2.2.1 := by
    rw [← Int32.ofNat_add]; congr 1; have := hb.2.2.2.1 h0 h6; omega
  rw [k.2.2.1, k.2.2.2.1 h6 h0, e]
  exact ⟨_, rfl, qGx_si (qGx_si (qGx_r σ) 1667 _ (by omega)) 1668 _ (by omega), ⟨hb.2.2.1, Or.inl ⟨rfl, rfl⟩⟩, rfl, rfl⟩
theorem x_back {B : Nat → Nat} {n p : Nat} (hp : p ≤ n) (σ : fv_S) : ∃ σ', zX4_back (Int32.ofNat p) σ = fv_rv σ' ∧ qGx σ σ' ∧ xAt B n p σ' :=
  ⟨_, rfl, qGx_si (qGx_si (qGx_r σ) 1667 _ (by omega)) 1668 _ (by omega), ⟨hp, Or.inl ⟨rfl, rfl⟩⟩⟩
theorem x_end {B : Nat → Nat} {n p : Nat} (hS : qS B n) {N : Nat} (hN : 7000 ≤ N) {σ : fv_S} (h : qX B n σ) (a : xAt B n p σ) : ∃ σ', zX4_isEnd N σ = fv_ri (q01 ((qT B n p).1 == 0)) σ' ∧ qGx σ σ' ∧ qXt n (qT B n p) σ' := by
  unfold zX4_isEnd
  obtain ⟨σ', x, f, k⟩ := x_look hS hN h a
  have e := qxk_end (qT_b hS p a.1)
  refine ⟨σ', ?_, f, k⟩
  rw [x, fv_bi_ri, k.2.1]
  by_cases c0 : qxk n (qT B n p) = 0
  · rw [if_pos c0, e.1 (Or.inl c0)]; rfl
  · rw [if_neg c0]
    by_cases c1 : qxk n (qT B n p) = 10
    · rw [if_neg (not_not_intro c1), e.1 (Or.inr c1)]; rfl
    · rw [if_pos c1]
      have : ((qT B n p).1 == 0) = false := by
        simp; intro e2; rcases e.2 e2 with h | h
        · exact c0 h
        · exact c1 h
      rw [this]; rfl
theorem x_wrong {n p : Nat} {t : qTok} (hb : qTb n p t) {σ : fv_S} (k : qXt n t σ) : zX4_wrong σ = fv_ra (Int32.ofNat (qwr t)) (Int32.ofNat t.2.1) (fv_sc σ) := by
  unfold zX4_wrong qwr
  rw [k.2.1, k.2.2.1]
  by_cases c : t.1 = 6
  · rw [if_neg (show ¬ ¬ qxk n t = 6 from not_not_intro ((qxk_ne hb 6 (by omega) (by omega) (by omega)).2 c)), if_pos c]; rfl
  · rw [if_pos (show ¬ qxk n t = 6 from fun e => c ((qxk_ne hb 6 (by omega) (by omega) (by omega)).1 e)), if_neg c]; rfl
theorem x_want {B : Nat → Nat} {n p : Nat} (hS : qS B n) {N : Nat} (hN : 7000 ≤ N) {σ : fv_S} (h : qX B n σ) (a : xAt B n p σ) (c : Nat) (hc : 6 < c ∧ c < 128 ∧ c ≠ 10) :
    ((qT B n p).1 = c → ∃ σ', zX4_want N (Int32.ofNat c) σ = fv_rv σ' ∧ qGx σ σ' ∧ xAt B n (qT B n p).2.2.1 σ') ∧
    ((qT B n p).1 ≠ c → ∃ σ', zX4_want N (Int32.ofNat c) σ = fv_th (Int32.ofNat (qwr (qT B n p))) (Int32.ofNat (qT B n p).2.1) (fv_sc σ') ∧ qGx σ σ' ∧ qXt n (qT B n p) σ') := by
  have hb := qT_b hS p a.1
  unfold zX4_want
  obtain ⟨σ1, x, f, k⟩ := x_look hS hN h a
  rw [x, fv_bi_ri]
  have e := qxk_ne hb c (by omega) (by omega) (by omega)
  constructor
  · intro hc1
    obtain ⟨σ2, x2, f2, k2, _⟩ := x_pass (B := B) hb k (by omega) (by omega)
    rw [if_pos (e.2 hc1), x2]
    exact ⟨σ2, rfl, qGx_t f f2, k2⟩
  · intro hc1
    rw [if_neg (fun e2 => hc1 (e.1 e2)), x_wrong hb k]
    exact ⟨σ1, rfl, f, k⟩
theorem x_next {B : Nat → Nat} {n : Nat} (hS : qS B n) (N : Nat) (σ : fv_S) (h : qX B n σ) : ∀ (d k m : Nat), n - k = d → k ≤ n → d + 1 ≤ m →
    zX4_nextPlace_5 N m (Int32.ofNat k) σ = fv_ri (Int32.ofNat (qnb B n k)) σ ∧ zX4_signBehind_10 N m (Int32.ofNat k) σ = zX4_signBehind_57 N (Int32.ofNat (qnb B n k)) σ ∧ zX4_isAlone_10 N m (Int32.ofNat k) σ = zX4_isAlone_57 N (Int32.ofNat (qnb B n k)) σ := by
  have hn := hS.1
  intro d
  induction d with
  | zero =>
    intro k m e hk hm
    obtain ⟨m, rfl⟩ : ∃ j, m = j + 1 := ⟨m - 1, by omega⟩
    unfold qnb
    rw [qrun_n (by omega)]
    have i0 := (p_leN n k (by omega) (by omega)).2 (by omega)
    refine ⟨?_, ?_, ?_⟩
    · show zX4_nextPlace_5_b _ _ _ _ = _
      unfold zX4_nextPlace_5_b; rw [h.1, if_pos i0]
    · show zX4_signBehind_10_b _ _ _ _ = _
      unfold zX4_signBehind_10_b; rw [h.1, if_pos i0]
    · show zX4_isAlone_10_b _ _ _ _ = _
      unfold zX4_isAlone_10_b; rw [h.1, if_pos i0]
  | succ d ih =>
    intro k m e hk hm
    obtain ⟨m, rfl⟩ : ∃ j, m = j + 1 := ⟨m - 1, by omega⟩
    obtain ⟨i1, i2⟩ := p_inN k 6000 (by omega) (by omega)
    have i0 : ¬ Int32.ofNat n ≤ Int32.ofNat k := fun c => by have := (p_leN n k (by omega) (by omega)).1 c; omega
    have hv : fv_ga σ 14 (Int32.ofNat k) = p_se (Int32.ofNat (B k)) := by
      show fv_gw σ 14 (Int32.ofNat k).toNatClampNeg = _; rw [i2, (h.2 k (by omega)).1]
    have hc : ∀ b, b < 256 → (p_se (Int32.ofNat b) = 32 ↔ b = 32) ∧ (p_se (Int32.ofNat b) = 9 ↔ b = 9) ∧ (p_se (Int32.ofNat b) = 13 ↔ b = 13) := by decide +kernel
    obtain ⟨a1, a2, a3⟩ := hc (B k) (hS.2.1 k)
    obtain ⟨y1, y2, y3⟩ := ih (k + 1) m (by omega) (by omega) (by omega)
    have go : qbl (B k) = true → qnb B n k = qnb B n (k + 1) := fun c => qrun_s (P := fun i => qbl (B i)) (by omega) c
    have st : qbl (B k) = false → qnb B n k = k := fun c => qrun_e (P := fun i => qbl (B i)) c
    by_cases c1 : B k = 32
    · rw [go (by rw [c1]; rfl), ← y1, ← y2, ← y3]
      refine ⟨?_, ?_, ?_⟩
      · show zX4_nextPlace_5_b _ _ _ _ = _
        unfold zX4_nextPlace_5_b; rw [h.1, if_neg i0, if_pos i1, hv, if_pos (a1.2 c1), p_sucN]
      · show zX4_signBehind_10_b _ _ _ _ = _
        unfold zX4_signBehind_10_b; rw [h.1, if_neg i0, if_pos i1, hv, if_pos (a1.2 c1), p_sucN]
      · show zX4_isAlone_10_b _ _ _ _ = _
        unfold zX4_isAlone_10_b; rw [h.1, if_neg i0, if_pos i1, hv, if_pos (a1.2 c1), p_sucN]
    by_cases c2 : B k = 9
    · rw [go (by rw [c2]; rfl), ← y1, ← y2, ← y3]
      refine ⟨?_, ?_, ?_⟩
      · show zX4_nextPlace_5_b _ _ _ _ = _
        unfold zX4_nextPlace_5_b; rw [h.1, if_neg i0, if_pos i1, hv, if_neg (fun e => c1 (a1.1 e)), if_pos i1, if_pos (a2.2 c2), p_sucN]
      · show zX4_signBehind_10_b _ _ _ _ = _
        unfold zX4_signBehind_10_b; rw [h.1, if_neg i0, if_pos i1, hv, if_neg (fun e => c1 (a1.1 e)), if_pos i1, if_pos (a2.2 c2), p_sucN]
      · show zX4_isAlone_10_b _ _ _ _ = _
        unfold zX4_isAlone_10_b; rw [h.1, if_neg i0, if_pos i1, hv, if_neg (fun e => c1 (a1.1 e)), if_pos i1, if_pos (a2.2 c2), p_sucN]
    by_cases c3 : B k = 13
    · rw [go (by rw [c3]; rfl), ← y1, ← y2, ← y3]
      refine ⟨?_, ?_, ?_⟩
      · show zX4_nextPlace_5_b _ _ _ _ = _
        unfold zX4_nextPlace_5_b; rw [h.1, if_neg i0, if_pos i1, hv, if_neg (fun e => c1 (a1.1 e)), if_pos i1, if_neg (fun e => c2 (a2.1 e)), if_pos i1, if_neg (not_not_intro (a3.2 c3)), p_sucN]
      · show zX4_signBehind_10_b _ _ _ _ = _
        unfold zX4_signBehind_10_b; rw [h.1, if_neg i0, if_pos i1, hv, if_neg (fun e => c1 (a1.1 e)), if_pos i1, if_neg (fun e => c2 (a2.1 e)), if_pos i1, if_neg (not_not_intro (a3.2 c3)), p_sucN]
      · show zX4_isAlone_10_b _ _ _ _ = _
        unfold zX4_isAlone_10_b; rw [h.1, if_neg i0, if_pos i1, hv, if_neg (fun e => c1 (a1.1 e)), if_pos i1, if_neg (fun e => c2 (a2.1 e)), if_pos i1, if_neg (not_not_intro (a3.2 c3)), p_sucN]
    rw [st (by unfold qbl; simp [c1, c2, c3])]
    refine ⟨?_, ?_, ?_⟩
    · show zX4_nextPlace_5_b _ _ _ _ = _
      unfold zX4_nextPlace_5_b; rw [h.1, if_neg i0, if_pos i1, hv, if_neg (fun e => c1 (a1.1 e)), if_pos i1, if_neg (fun e => c2 (a2.1 e)), if_pos i1, if_pos (fun e => c3 (a3.1 e))]
    · show zX4_signBehind_10_b _ _ _ _ = _
      unfold zX4_signBehind_10_b; rw [h.1, if_neg i0, if_pos i1, hv, if_neg (fun e => c1 (a1.1 e)), if_pos i1, if_neg (fun e => c2 (a2.1 e)), if_pos i1, if_pos (fun e => c3 (a3.1 e))]
    · show zX4_isAlone_10_b _ _ _ _ = _
      unfold zX4_isAlone_10_b; rw [h.1, if_neg i0, if_pos i1, hv, if_neg (fun e => c1 (a1.1 e)), if_pos i1, if_neg (fun e => c2 (a2.1 e)), if_pos i1, if_pos (fun e => c3 (a3.1 e))]
/-- the kind of a token by its first sign -/
theorem qTq_0 (B : Nat → Nat) (n q : Nat) : (qTq B n q).1 = 0 ↔ B q = 10 ∨ B q = 59 := by
  have tn : ∀ r s, (qTn B n r q s).1 ≠ 0 := by
    intro r s; unfold qTn; split
    · show (6 : Nat) ≠ 0; omega
    · show (2 : Nat) ≠ 0; omega
  unfold qTq
  by_cases c10 : B q = 10
  · rw [if_pos c10]; exact ⟨fun _ => Or.inl c10, fun _ => rfl⟩
  by_cases c59 : B q = 59
  · rw [if_neg c10, if_pos c59]; exact ⟨fun _ => Or.inr c59, fun _ => rfl⟩
  rw [if_neg c10, if_neg c59]
  refine ⟨fun e => absurd e ?_, fun e => by omega⟩
  split
  · split
    · show (6 : Nat) ≠ 0; omega
    · show (1 : Nat) ≠ 0; omega
  split
  · exact tn _ _
  split
  · exact tn _ _
  split
  · exact tn _ _
  split
  · split
    · show (2 : Nat) ≠ 0; omega
    · show (6 : Nat) ≠ 0; omega
  split
  · split
    · show (3 : Nat) ≠ 0; omega
    · show (6 : Nat) ≠ 0; omega
  split
  · show (if B q = 60 then 4 else 5) ≠ 0
    split <;> omega
  split
  · rename_i h; have := qsg_lt h; show B q ≠ 0; omega
  · show (6 : Nat) ≠ 0; omega
theorem qTq_sg (B : Nat → Nat) (n q c : Nat) (hc : qsg c = true) : (qTq B n q).1 = c ↔ B q = c := by
  have hl := qsg_lt hc
  have tn : ∀ r s, (qTn B n r q s).1 ≠ c := by
    intro r s; unfold qTn; split
    · show (6 : Nat) ≠ c; omega
    · show (2 : Nat) ≠ c; omega
  constructor
  · unfold qTq
    split
    · intro e; exact absurd e (show (0 : Nat) ≠ c by omega)
    split
    · intro e; exact absurd e (show (0 : Nat) ≠ c by omega)
    split
    · split
      · intro e; exact absurd e (show (6 : Nat) ≠ c by omega)
      · intro e; exact absurd e (show (1 : Nat) ≠ c by omega)
    split
    · intro e; exact absurd e (tn _ _)
    split
    · intro e; exact absurd e (tn _ _)
    split
    · intro e; exact absurd e (tn _ _)
    split
    · split
      · intro e; exact absurd e (show (2 : Nat) ≠ c by omega)
      · intro e; exact absurd e (show (6 : Nat) ≠ c by omega)
    split
    · split
      · intro e; exact absurd e (show (3 : Nat) ≠ c by omega)
      · intro e; exact absurd e (show (6 : Nat) ≠ c by omega)
    split
    · intro e; exact absurd e (show (if B q = 60 then 4 else 5) ≠ c by split <;> omega)
    split
    · intro e; exact e
    · intro e; exact absurd e (show (6 : Nat) ≠ c by omega)
  · intro e
    unfold qTq
    have k : ∀ c, c < 128 → qsg c = true → c ≠ 10 ∧ c ≠ 59 ∧ qst c = false ∧ qdg c = false ∧ c ≠ 36 ∧ c ≠ 37 ∧ c ≠ 39 ∧ c ≠ 34 ∧ c ≠ 60 ∧ c ≠ 62 := by decide +kernel
    obtain ⟨k1, k2, k3, k4, k5, k6, k7, k8, k9, k10⟩ := k c hl.2.1 hc
    rw [e, if_neg k1, if_neg k2, k3, if_neg (by decide), k4, if_neg (by decide), if_neg k5, if_neg k6, if_neg k7, if_neg k8, if_neg (fun e => by omega), if_pos hc]
theorem qTq_1 (B : Nat → Nat) (n q : Nat) : (qTq B n q).1 = 1 ↔ qst (B q) = true ∧ qrun (fun i => qnp (B i)) n q - q ≤ 12 := by
  have tn : ∀ r s, (qTn B n r q s).1 ≠ 1 := by
    intro r s; unfold qTn; split
    · show (6 : Nat) ≠ 1; omega
    · show (2 : Nat) ≠ 1; omega
  constructor
  · unfold qTq
    split
    · intro e; exact absurd e (show (0 : Nat) ≠ 1 by omega)
    split
    · intro e; exact absurd e (show (0 : Nat) ≠ 1 by omega)
    split
    · rename_i h
      split
      · intro e; exact absurd e (show (6 : Nat) ≠ 1 by omega)
      · intro e; exact ⟨h, by omega⟩
    split
    · intro e; exact absurd e (tn _ _)
    split
    · intro e; exact absurd e (tn _ _)
    split
    · intro e; exact absurd e (tn _ _)
    split
    · split
      · intro e; exact absurd e (show (2 : Nat) ≠ 1 by omega)
      · intro e; exact absurd e (show (6 : Nat) ≠ 1 by omega)
    split
    · split
      · intro e; exact absurd e (show (3 : Nat) ≠ 1 by omega)
      · intro e; exact absurd e (show (6 : Nat) ≠ 1 by omega)
    split
    · intro e; exact absurd e (show (if B q = 60 then 4 else 5) ≠ 1 by split <;> omega)
    split
    · rename_i h; intro e; have := qsg_lt h; exact absurd e (show B q ≠ 1 by omega)
    · intro e; exact absurd e (show (6 : Nat) ≠ 1 by omega)
  · rintro ⟨h1, h2⟩
    unfold qTq
    have c10 : B q ≠ 10 := fun e => by rw [e] at h1; exact absurd h1 (by decide)
    have c59 : B q ≠ 59 := fun e => by rw [e] at h1; exact absurd h1 (by decide)
    rw [if_neg c10, if_neg c59, if_pos h1, if_neg (by omega)]
/-- a name: what it is -/
theorem qTq_n {B : Nat → Nat} {n q : Nat} (h : (qTq B n q).1 = 1) : qTq B n q = (1, q, (if qnm B q (qrun (fun i => qnp (B i)) n q - q) = [65, 70] ∧ B (qrun (fun i => qnp (B i)) n q) = 39 then qrun (fun i => qnp (B i)) n q + 1 else qrun (fun i => qnp (B i)) n q), 0) := by
  obtain ⟨h1, h2⟩ := (qTq_1 B n q).1 h
  unfold qTq
  have c10 : B q ≠ 10 := fun e => by rw [e] at h1; exact absurd h1 (by decide)
  have c59 : B q ≠ 59 := fun e => by rw [e] at h1; exact absurd h1 (by decide)
  rw [if_neg c10, if_neg c59, if_pos h1, if_neg (by omega)]
theorem x_isB {B : Nat → Nat} {n p : Nat} (hS : qS B n) {N : Nat} (hN : 7000 ≤ N) {σ : fv_S} (h : qX B n σ) (hp : p ≤ n) (a : fv_gi σ 1667 = Int32.ofNat p) : zX4_isBefore N 58 σ = fv_ri (q01 ((qT B n p).1 == 58)) σ := by
  have hn := hS.1
  unfold zX4_isBefore zX4_nextPlace
  have hq := (qrun_le (fun i => qbl (B i)) n p).2 hp
  rw [a, (x_next hS N σ h (n - p) p N rfl hp (by omega)).1, fv_bi_ri, x_sg hS h _ (by unfold qnb; omega), fv_bi_ri]
  have e : (qT B n p).1 = 58 ↔ B (qnb B n p) = 58 := qTq_sg B n _ 58 rfl
  by_cases c : B (qnb B n p) = 58
  · rw [if_neg (show ¬ ¬ qxs B n (qnb B n p) = 58 from not_not_intro ((x_eqc hS _ 58 (by omega) rfl).2 c)), show ((qT B n p).1 == 58) = true by rw [e.2 c]; rfl]; rfl
  · rw [if_pos (show ¬ qxs B n (qnb B n p) = 58 from fun e => c ((x_eqc hS _ 58 (by omega) rfl).1 e)), show ((qT B n p).1 == 58) = false by simp; exact fun h => c (e.1 h)]; rfl
theorem x_sBh {B : Nat → Nat} {n p : Nat} (hS : qS B n) {N : Nat} (hN : 7000 ≤ N) {t : qTok} (hb : qTb n p t) {σ : fv_S} (h : qX B n σ) (k : qXt n t σ) (h0 : t.1 ≠ 0) (h6 : t.1 ≠ 6) : ∃ r, zX4_signBehind N σ = fv_ri r σ ∧ ∀ c, qnl c = true → qsg c = true → (r = Int32.ofNat c ↔ (qT B n t.2.2.1).1 = c) := by
  have hn := hS.1
  unfold zX4_signBehind
  have e : Int32.ofNat t.2.1 + Int32.ofNat (t.2.2.1 - t.2.1) = Int32.ofNat t.2.2.1 := by
    rw [← Int32.ofNat_add]; congr 1; have := hb.2.2.2.1 h0 h6; omega
  have hq := (qrun_le (fun i => qbl (B i)) n t.2.2.1).2 hb.2.2.1
  rw [k.2.2.1, k.2.2.2.1 h6 h0, e, (x_next hS N σ h (n - t.2.2.1) t.2.2.1 N rfl hb.2.2.1 (by omega)).2.1]
  unfold zX4_signBehind_57
  rw [x_sg hS h _ (by unfold qnb; omega), fv_bi_ri]
  refine ⟨_, rfl, fun c hc hg => ?_⟩
  exact (x_eqc hS _ c (qsg_lt hg).2.1 hc).trans (qTq_sg B n _ c hg).symm
theorem x_aln {B : Nat → Nat} {n p : Nat} (hS : qS B n) {N : Nat} (hN : 7000 ≤ N) {t : qTok} (hb : qTb n p t) {σ : fv_S} (h : qX B n σ) (k : qXt n t σ) (h0 : t.1 ≠ 0) (h6 : t.1 ≠ 6) : zX4_isAlone N σ = fv_ri (q01 ((qT B n t.2.2.1).1 == 0 || (qT B n t.2.2.1).1 == 44)) σ := by
  have hn := hS.1
  unfold zX4_isAlone
  have e : Int32.ofNat t.2.1 + Int32.ofNat (t.2.2.1 - t.2.1) = Int32.ofNat t.2.2.1 := by
    rw [← Int32.ofNat_add]; congr 1; have := hb.2.2.2.1 h0 h6; omega
  have hq := (qrun_le (fun i => qbl (B i)) n t.2.2.1).2 hb.2.2.1
  rw [k.2.2.1, k.2.2.2.1 h6 h0, e, (x_next hS N σ h (n - t.2.2.1) t.2.2.1 N rfl hb.2.2.1 (by omega)).2.2]
  unfold zX4_isAlone_57
  rw [x_sg hS h _ (by unfold qnb; omega), fv_bi_ri, h.1]
  have e0 : (qT B n t.2.2.1).1 = 0 ↔ B (qnb B n t.2.2.1) = 10 ∨ B (qnb B n t.2.2.1) = 59 := qTq_0 B n _
  have e44 : (qT B n t.2.2.1).1 = 44 ↔ B (qnb B n t.2.2.1) = 44 := qTq_sg B n _ 44 rfl
  have yes : (qT B n t.2.2.1).1 = 0 ∨ (qT B n t.2.2.1).1 = 44 → q01 ((qT B n t.2.2.1).1 == 0 || (qT B n t.2.2.1).1 == 44) = 1 := by
    rintro (h | h) <;> rw [h] <;> rfl
  have hq' : qnb B n t.2.2.1 ≤ n := hq
  generalize qnb B n t.2.2.1 = q at hq' e0 e44 ⊢
  by_cases cn : q = n
  · rw [if_pos (show Int32.ofNat q = Int32.ofNat n by rw [cn]), yes (Or.inl (e0.2 (Or.inl (hS.2.2 q (by omega)))))]
  rw [if_neg (show ¬ Int32.ofNat q = Int32.ofNat n from fun e => cn ((p_eqN q n (by omega) (by omega)).1 e))]
  have e10 : qxs B n q = 10 ↔ B q = 10 := by
    unfold qxs; rw [if_pos (by omega)]
    have : ∀ b, b < 256 → (p_se (Int32.ofNat (qcap b)) = 10 ↔ b = 10) := by decide +kernel
    exact this _ (hS.2.1 q)
  by_cases c1 : B q = 10
  · rw [if_pos (e10.2 c1), yes (Or.inl (e0.2 (Or.inl c1)))]
  rw [if_neg (fun e => c1 (e10.1 e))]
  by_cases c2 : B q = 59
  · rw [if_pos (show qxs B n q = 59 from (x_eqc hS q 59 (by omega) rfl).2 c2), yes (Or.inl (e0.2 (Or.inr c2)))]
  rw [if_neg (show ¬ qxs B n q = 59 from fun e => c2 ((x_eqc hS q 59 (by omega) rfl).1 e))]
  by_cases c3 : B q = 44
  · rw [if_neg (show ¬ ¬ qxs B n q = 44 from not_not_intro ((x_eqc hS q 44 (by omega) rfl).2 c3)), yes (Or.inr (e44.2 c3))]
  rw [if_pos (show ¬ qxs B n q = 44 from fun e => c3 ((x_eqc hS q 44 (by omega) rfl).1 e))]
  have : ((qT B n t.2.2.1).1 == 0 || (qT B n t.2.2.1).1 == 44) = false := by
    simp
    exact ⟨fun e => by rcases e0.1 e with h | h; exact c1 h; exact c2 h, fun e => c3 (e44.1 e)⟩
  rw [this]; rfl
/-- whether the ( at hand is closed where the operand ends -/
def qWh (B : Nat → Nat) (n : Nat) : Nat → Nat → Nat → Bool
  | 0, _, _ => false
  | f + 1, o, p => if (qT B n p).1 = 0 ∨ (qT B n p).1 = 6 then false else if (qT B n p).1 = 41 ∧ o = 1 then ((qT B n (qT B n p).2.2.1).1 == 0 || (qT B n (qT B n p).2.2.1).1 == 44) else qWh B n f (if (qT B n p).1 = 40 then o + 1 else if (qT B n p).1 = 41 then o - 1 else o) (qT B n p).2.2.1
