set_option maxRecDepth 100000
set_option maxHeartbeats 4000000
/-! The plain law: the assembler's source, sign by sign; the model's tokens. -/
def qS (B : Nat → Nat) (n : Nat) : Prop := n ≤ 6000 ∧ (∀ i, B i < 256) ∧ ∀ i, n ≤ i → B i = 10
def qM (B : Nat → Nat) (n : Nat) (τ : fv_S) : Prop := fv_gi τ 1 = Int32.ofNat n ∧ ∀ i, i < n → fv_gw τ 1 i = Int32.ofNat (B i)
def qcap (b : Nat) : Nat := if 97 ≤ b ∧ b ≤ 122 then b - 32 else b
def qbl (b : Nat) : Bool := b == 32 || b == 9 || b == 13
def qdg (b : Nat) : Bool := decide (48 ≤ b ∧ b ≤ 57)
def qst (b : Nat) : Bool := decide (65 ≤ qcap b ∧ qcap b ≤ 90) || b == 95
def qnp (b : Nat) : Bool := qst b || qdg b
def qwo (b : Nat) : Nat := if qdg b then b - 48 else if 65 ≤ qcap b ∧ qcap b ≤ 70 then qcap b - 55 else 99
def qsh (b : Nat) : Bool := decide (32 ≤ b ∧ b ≤ 126)
def qtx (b : Nat) : Bool := qsh b && !(b == 34)
def qsg (b : Nat) : Bool := b == 40 || b == 41 || b == 44 || b == 58 || b == 43 || b == 45 || b == 42 || b == 47 || b == 38 || b == 124 || b == 94 || b == 126 || b == 64
/-- the first place from p on where P doesn't hold, n at most -/
def qgo (P : Nat → Bool) : Nat → Nat → Nat
  | 0, p => p
  | f + 1, p => if P p then qgo P f (p + 1) else p
def qrun (P : Nat → Bool) (n p : Nat) : Nat := qgo P (n - p) p
theorem qrun_s {P : Nat → Bool} {n p : Nat} (h : p < n) (hp : P p = true) : qrun P n p = qrun P n (p + 1) := by
  unfold qrun
  rw [show n - p = (n - (p + 1)) + 1 by omega]
  show (if P p then _ else _) = _
  rw [if_pos hp]
theorem qrun_e {P : Nat → Bool} {n p : Nat} (hp : P p = false) : qrun P n p = p := by
  unfold qrun
  cases n - p with
  | zero => rfl
  | succ f => show (if P p then _ else _) = _; rw [if_neg (by rw [hp]; decide)]
theorem qrun_n {P : Nat → Bool} {n p : Nat} (h : n ≤ p) : qrun P n p = p := by
  unfold qrun; rw [show n - p = 0 by omega]; rfl
theorem qgo_le (P : Nat → Bool) : ∀ f p, p ≤ qgo P f p ∧ qgo P f p ≤ p + f := by
  intro f
  induction f with
  | zero => intro p; exact ⟨Nat.le_refl _, Nat.le_refl _⟩
  | succ f ih =>
    intro p
    show p ≤ (if P p then _ else _) ∧ (if P p then _ else _) ≤ _
    split
    · have := ih (p + 1); omega
    · omega
theorem qrun_le (P : Nat → Bool) (n p : Nat) : p ≤ qrun P n p ∧ (p ≤ n → qrun P n p ≤ n) := by
  unfold qrun; have := qgo_le P (n - p) p; omega
theorem qgo_in (P : Nat → Bool) : ∀ f p i, p ≤ i → i < qgo P f p → P i = true := by
  intro f
  induction f with
  | zero => intro p i h1 h2; exact absurd (show i < p from h2) (by omega)
  | succ f ih =>
    intro p i h1 h2
    have h2' : i < if P p then qgo P f (p + 1) else p := h2
    split at h2'
    · by_cases c : i = p
      · subst c; assumption
      · exact ih (p + 1) i (by omega) h2'
    · omega
theorem qrun_in {P : Nat → Bool} {n p i : Nat} (h1 : p ≤ i) (h2 : i < qrun P n p) : P i = true := qgo_in P _ p i h1 h2
theorem qgo_out (P : Nat → Bool) : ∀ f p, qgo P f p < p + f → P (qgo P f p) = false := by
  intro f
  induction f with
  | zero => intro p h; exact absurd (show p < p + 0 from h) (by omega)
  | succ f ih =>
    intro p
    show (if P p then qgo P f (p + 1) else p) < _ → P (if P p then qgo P f (p + 1) else p) = false
    split
    · intro h; exact ih (p + 1) (by omega)
    · rename_i c; intro _; cases e : P p
      · rfl
      · exact absurd e c
theorem qrun_out {P : Nat → Bool} {n p : Nat} (hP : ∀ i, n ≤ i → P i = false) : P (qrun P n p) = false := by
  by_cases c : qrun P n p < p + (n - p)
  · exact qgo_out P _ p c
  · exact hP _ (by have := (qrun_le P n p).1; omega)
theorem m_by {B : Nat → Nat} {n : Nat} {τ : fv_S} (hS : qS B n) (h : qM B n τ) (p : Nat) (hp : p < 100000) : zX8_byteAt (Int32.ofNat p) τ = fv_ri (Int32.ofNat (B p)) τ := by
  have hn := hS.1
  unfold zX8_byteAt
  rw [h.1]
  by_cases c : n ≤ p
  · rw [if_pos ((p_leN n p (by omega) (by omega)).2 c), hS.2.2 p c]; rfl
  · obtain ⟨i1, i2⟩ := p_inN p 6000 (by omega) (by omega)
    rw [if_neg (fun e => c ((p_leN n p (by omega) (by omega)).1 e)), if_pos i1]
    show fv_ri (fv_gw τ 1 (Int32.ofNat p).toNatClampNeg) τ = _
    rw [i2, h.2 p (by omega)]
def q01 (b : Bool) : Int32 := if b then 1 else 0
theorem m_bl (b : Nat) (hb : b < 256) (τ : fv_S) : zX8_isBlank (Int32.ofNat b) τ = fv_ri (q01 (qbl b)) τ := by
  have k : p_K (fun τ => zX8_isBlank (Int32.ofNat b) τ) := by
    unfold zX8_isBlank; repeat (first | exact p_Kr _ | with_reducible apply p_Ki)
  rw [p_Kv k τ]
  have : ∀ b, b < 256 → p_v (zX8_isBlank (Int32.ofNat b) p_σd) = q01 (qbl b) := by decide +kernel
  rw [this b hb]
theorem p_Kb {g : fv_S → Option fv_O} {k : Int32 → fv_S → Option fv_O} (hg : p_K g) (hk : ∀ r, p_K (k r)) : p_K (fun σ => fv_bi (g σ) k fv_no) := by
  obtain ⟨r, h⟩ := hg
  obtain ⟨s, h2⟩ := hk r
  exact ⟨s, fun σ => by show fv_bi (g σ) k fv_no = _; rw [h σ, fv_bi_ri, h2 σ]⟩
theorem m_Kcap (x : Int32) : p_K (fun τ => zX8_capital x τ) := by
  unfold zX8_capital; repeat (first | exact p_Kr _ | with_reducible apply p_Ki)
theorem m_cap (b : Nat) (hb : b < 256) (τ : fv_S) : zX8_capital (Int32.ofNat b) τ = fv_ri (Int32.ofNat (qcap b)) τ := by
  rw [p_Kv (m_Kcap _) τ]
  have : ∀ b, b < 256 → p_v (zX8_capital (Int32.ofNat b) p_σd) = Int32.ofNat (qcap b) := by decide +kernel
  rw [this b hb]
theorem m_st (b : Nat) (hb : b < 256) (τ : fv_S) : zX8_isStart (Int32.ofNat b) τ = fv_ri (q01 (qst b)) τ := by
  have k : p_K (fun τ => zX8_isStart (Int32.ofNat b) τ) := by
    unfold zX8_isStart zX8_isStart_18
    refine p_Kb (m_Kcap _) (fun r => ?_)
    repeat (first | exact p_Kr _ | with_reducible apply p_Ki)
  rw [p_Kv k τ]
  have : ∀ b, b < 256 → p_v (zX8_isStart (Int32.ofNat b) p_σd) = q01 (qst b) := by decide +kernel
  rw [this b hb]
theorem m_Kdg (x : Int32) : p_K (fun τ => zX8_isDigit x τ) := by
  unfold zX8_isDigit; repeat (first | exact p_Kr _ | with_reducible apply p_Ki)
theorem m_dg (b : Nat) (hb : b < 256) (τ : fv_S) : zX8_isDigit (Int32.ofNat b) τ = fv_ri (q01 (qdg b)) τ := by
  rw [p_Kv (m_Kdg _) τ]
  have : ∀ b, b < 256 → p_v (zX8_isDigit (Int32.ofNat b) p_σd) = q01 (qdg b) := by decide +kernel
  rw [this b hb]
theorem m_wo (b : Nat) (hb : b < 256) (τ : fv_S) : zX8_worth (Int32.ofNat b) τ = fv_ri (Int32.ofNat (qwo b)) τ := by
  have k : p_K (fun τ => zX8_worth (Int32.ofNat b) τ) := by
    unfold zX8_worth
    refine p_Kb (m_Kcap _) (fun r => p_Kb (m_Kdg _) (fun s => ?_))
    repeat (first | exact p_Kr _ | with_reducible apply p_Ki)
  rw [p_Kv k τ]
  have : ∀ b, b < 256 → p_v (zX8_worth (Int32.ofNat b) p_σd) = Int32.ofNat (qwo b) := by decide +kernel
  rw [this b hb]
theorem qwo_lt (b : Nat) : qwo b ≤ 99 := by
  unfold qwo qdg
  split
  · rename_i h; simp at h; omega
  · split
    · omega
    · omega
/-- the digits from s on: where they end, their worth (no more than 65535 is told apart) -/
def qdgo (B : Nat → Nat) (r : Nat) : Nat → Nat → Nat → Nat × Nat
  | 0, s, v => (s, v)
  | f + 1, s, v => if qwo (B s) < r then qdgo B r f (s + 1) (if 65535 < v then v else v * r + qwo (B s)) else (s, v)
def qnum (B : Nat → Nat) (n r s v : Nat) : Nat × Nat := qdgo B r (n - s) s v
/-- a token: its kind (0 end, 1 name, 2 number, 3 text, 4 and 5 the signs of two, 6 none, a sign), its place, where it stops, its worth -/
abbrev qTok : Type := Nat × Nat × Nat × Nat
def qTn (B : Nat → Nat) (n r q s : Nat) : qTok := if (qnum B n r s 0).1 = s ∨ 65535 < (qnum B n r s 0).2 then (6, q, q, 0) else (2, q, (qnum B n r s 0).1, (qnum B n r s 0).2)
def qnm (B : Nat → Nat) (q : Nat) : Nat → List Nat
  | 0 => []
  | k + 1 => qcap (B q) :: qnm B (q + 1) k
def qTq (B : Nat → Nat) (n q : Nat) : qTok :=
  if B q = 10 then (0, q, q, 0) else
  if B q = 59 then (0, qrun (fun i => !(B i == 10)) n q, q, 0) else
  if qst (B q) then
    (if 12 < qrun (fun i => qnp (B i)) n q - q then (6, q, q, 0) else (1, q, (if qnm B q (qrun (fun i => qnp (B i)) n q - q) = [65, 70] ∧ B (qrun (fun i => qnp (B i)) n q) = 39 then qrun (fun i => qnp (B i)) n q + 1 else qrun (fun i => qnp (B i)) n q), 0)) else
  if qdg (B q) then qTn B n 10 q q else
  if B q = 36 then qTn B n 16 q (q + 1) else
  if B q = 37 then qTn B n 2 q (q + 1) else
  if B q = 39 then (if qsh (B (q + 1)) = true ∧ B (q + 2) = 39 then (2, q, q + 3, B (q + 1)) else (6, q, q, 0)) else
  if B q = 34 then (if B (qrun (fun i => qtx (B i)) n (q + 1)) = 34 then (3, q, qrun (fun i => qtx (B i)) n (q + 1) + 1, 0) else (6, q, q, 0)) else
  if (B q = 60 ∨ B q = 62) ∧ B (q + 1) = B q then (if B q = 60 then 4 else 5, q, q + 2, 0) else
  if qsg (B q) then (B q, q, q + 1, 0) else (6, q, q, 0)
def qT (B : Nat → Nat) (n p : Nat) : qTok := qTq B n (qrun (fun i => qbl (B i)) n p)
def qpk (l : List Nat) : Nat := l.foldl (fun a c => a * 256 + c) 0
def qwd (l : List Nat) : Int64 := if l.length ≤ 8 then Int64.ofNat (qpk l) else 0
def qmk (k : Nat) : Nat := if k = 0 then 1 else if k = 1 then 2 else if k = 2 then 3 else if k = 3 then 4 else if k = 6 then 0 else 5
def qmv (k : Nat) : Nat := if k = 4 then 300 else if k = 5 then 301 else k
/-- the model holds a token -/
def qN (B : Nat → Nat) (t : qTok) (τ : fv_S) : Prop := fv_gi τ 2 = Int32.ofNat t.2.2.1 ∧ fv_gi τ 3 = Int32.ofNat (qmk t.1) ∧ fv_gi τ 4 = Int32.ofNat t.2.1 ∧ (t.1 = 2 → fv_gi τ 6 = Int32.ofNat t.2.2.2) ∧ ((t.1 = 4 ∨ t.1 = 5 ∨ 6 < t.1) → fv_gi τ 6 = Int32.ofNat (qmv t.1)) ∧ fv_gl τ 7 = if t.1 = 1 then qwd (qnm B t.2.1 (t.2.2.1 - t.2.1)) else 0
def qMt (B : Nat → Nat) (t : qTok) (τ : fv_S) : Prop := qN B t τ ∧ fv_gi τ 5 = Int32.ofNat t.2.2.1
def qFt (τ τ' : fv_S) : Prop := (∀ k, k < 2 ∨ 6 < k → fv_gi τ' k = fv_gi τ k) ∧ τ'.2.2 = τ.2.2 ∧ ∀ k, k ≠ 7 → fv_gl τ' k = fv_gl τ k
theorem qFt_r (τ : fv_S) : qFt τ τ := ⟨fun _ _ => rfl, rfl, fun _ _ => rfl⟩
theorem qFt_t {a b c : fv_S} (h : qFt a b) (g : qFt b c) : qFt a c := ⟨fun k hk => (g.1 k hk).trans (h.1 k hk), g.2.1.trans h.2.1, fun k hk => (g.2.2 k hk).trans (h.2.2 k hk)⟩
theorem qFt_si {a b : fv_S} (h : qFt a b) (k : Nat) (v : Int32) (hk : 2 ≤ k ∧ k ≤ 6) : qFt a (fv_si b k v) := ⟨fun j hj => (if_neg (show j ≠ k by omega)).trans (h.1 j hj), h.2.1, h.2.2⟩
theorem qFt_sl {a b : fv_S} (h : qFt a b) (v : Int64) : qFt a (fv_sl b 7 v) := ⟨h.1, h.2.1, fun j hj => (if_neg hj).trans (h.2.2 j hj)⟩
theorem qM_f {B : Nat → Nat} {n : Nat} {τ τ' : fv_S} (h : qM B n τ) (f : qFt τ τ') : qM B n τ' := by
  refine ⟨(f.1 1 (by omega)).trans h.1, ?_⟩
  show ∀ i, i < n → τ'.2.2.1 1 i = _
  rw [f.2.1]; exact h.2
/-- what a branch of next answers: a state with this token -/
def qE (B : Nat → Nat) (t : qTok) (τ : fv_S) (o : Option fv_O) : Prop := ∃ τ', o = fv_rv τ' ∧ qFt τ τ' ∧ qMt B t τ'
def qE0 (B : Nat → Nat) (t : qTok) (τ : fv_S) (o : Option fv_O) : Prop := ∃ τ', o = fv_rv τ' ∧ qFt τ τ' ∧ qN B t τ'
theorem m_321 {B : Nat → Nat} {t : qTok} {τ : fv_S} {N : Nat} (h : qN B t τ) : qE B t τ (zX8_next_321 N τ) :=
  ⟨fv_si τ 5 (fv_gi τ 2), rfl, qFt_si (qFt_r τ) 5 _ (by omega), ⟨h.1, h.2.1, h.2.2.1, h.2.2.2.1, h.2.2.2.2.1, h.2.2.2.2.2⟩, h.1⟩
theorem qE_b {B : Nat → Nat} {t : qTok} {τ : fv_S} {N : Nat} {o : Option fv_O} (h : qE0 B t τ o) : qE B t τ (fv_bv o (fun σ => zX8_next_321 N σ) fv_no) := by
  obtain ⟨τ1, rfl, f, h1⟩ := h
  obtain ⟨τ2, x, g, h2⟩ := m_321 (N := N) h1
  exact ⟨τ2, by rw [fv_bv_rv]; exact x, qFt_t f g, h2⟩
theorem qE_t {B : Nat → Nat} {t : qTok} {τ0 τ : fv_S} {o : Option fv_O} (f : qFt τ0 τ) (h : qE B t τ o) : qE B t τ0 o := by
  obtain ⟨τ', x, g, k⟩ := h; exact ⟨τ', x, qFt_t f g, k⟩
theorem qE0_t {B : Nat → Nat} {t : qTok} {τ0 τ : fv_S} {o : Option fv_O} (f : qFt τ0 τ) (h : qE0 B t τ o) : qE0 B t τ0 o := by
  obtain ⟨τ', x, g, k⟩ := h; exact ⟨τ', x, qFt_t f g, k⟩
theorem p_eqN (a b : Nat) (ha : a < 2147483648) (hb : b < 2147483648) : Int32.ofNat a = Int32.ofNat b ↔ a = b := by
  constructor
  · intro h; have := congrArg Int32.toInt h; rw [p_ofn a ha, p_ofn b hb] at this; omega
  · intro h; rw [h]
/-- the state at a token's first sign: its place, no kind, no word -/
def qB0 (q : Nat) (τ : fv_S) : Prop := fv_gi τ 2 = Int32.ofNat q ∧ fv_gi τ 3 = 0 ∧ fv_gi τ 4 = Int32.ofNat q ∧ fv_gl τ 7 = 0
theorem qB0_bad {B : Nat → Nat} {q : Nat} {τ : fv_S} (h : qB0 q τ) : qN B (6, q, q, 0) τ := ⟨h.1, h.2.1, h.2.2.1, fun e => absurd e (show ¬ (6 : Nat) = 2 by omega), fun e => absurd e (show ¬ ((6 : Nat) = 4 ∨ (6 : Nat) = 5 ∨ 6 < 6) by omega), h.2.2.2⟩
theorem m_72 {B : Nat → Nat} {n : Nat} (hS : qS B n) (N q : Nat) (hq : q ≤ 6100) : ∀ (d p m : Nat) (τ : fv_S), n - p = d → p ≤ 6100 → d + 1 ≤ m → qM B n τ → fv_gi τ 2 = Int32.ofNat q → fv_gi τ 3 = 1 → fv_gi τ 4 = Int32.ofNat p → fv_gl τ 7 = 0 →
    qE B (0, qrun (fun i => !(B i == 10)) n p, q, 0) τ (zX8_next_72 N m τ) := by
  have hn := hS.1
  intro d
  induction d with
  | zero =>
    intro p m τ e hp hm h h2 h3 h4 h7
    obtain ⟨m, rfl⟩ : ∃ j, m = j + 1 := ⟨m - 1, by omega⟩
    have hb := hS.2.2 p (by omega)
    rw [qrun_n (by omega)]
    show qE _ _ _ (zX8_next_72_b _ _ _)
    unfold zX8_next_72_b
    rw [h4, m_by hS h p (by omega), fv_bi_ri, hb, if_pos (show Int32.ofNat 10 = 10 from rfl)]
    exact m_321 ⟨h2, h3, h4, fun e => absurd e (show ¬ (0 : Nat) = 2 by omega), fun e => absurd e (show ¬ ((0 : Nat) = 4 ∨ (0 : Nat) = 5 ∨ 6 < 0) by omega), h7⟩
  | succ d ih =>
    intro p m τ e hp hm h h2 h3 h4 h7
    obtain ⟨m, rfl⟩ : ∃ j, m = j + 1 := ⟨m - 1, by omega⟩
    show qE _ _ _ (zX8_next_72_b _ _ _)
    unfold zX8_next_72_b
    rw [h4, m_by hS h p (by omega), fv_bi_ri]
    by_cases c : B p = 10
    · rw [qrun_e (by rw [c]; rfl), c, if_pos (show Int32.ofNat 10 = 10 from rfl)]
      exact m_321 ⟨h2, h3, h4, fun e => absurd e (show ¬ (0 : Nat) = 2 by omega), fun e => absurd e (show ¬ ((0 : Nat) = 4 ∨ (0 : Nat) = 5 ∨ 6 < 0) by omega), h7⟩
    · rw [qrun_s (by omega) (by simp [c]), if_neg (show ¬ Int32.ofNat (B p) = 10 from fun e => c ((p_eqN (B p) 10 (by have := hS.2.1 p; omega) (by omega)).1 e)), h4, p_sucN]
      have f := qFt_si (qFt_r τ) 4 (Int32.ofNat (p + 1)) (by omega)
      exact qE_t f (ih (p + 1) m _ (by omega) (by omega) (by omega) (qM_f h f) h2 h3 rfl h7)
theorem m_sign {B : Nat → Nat} {n q : Nat} (hS : qS B n) (hq : q ≤ 6100) {τ : fv_S} (h : qM B n τ) (g : qB0 q τ) : qE0 B (if (B q = 60 ∨ B q = 62) ∧ B (q + 1) = B q then (if B q = 60 then 4 else 5, q, q + 2, 0) else if qsg (B q) then (B q, q, q + 1, 0) else (6, q, q, 0)) τ (zX8_readSign (Int32.ofNat (B q)) τ) := by
  have hb := hS.2.1 q
  have e63 : qE0 B (if qsg (B q) then (B q, q, q + 1, 0) else (6, q, q, 0)) τ (zX8_readSign_63 (Int32.ofNat (B q)) τ) := by
    have k : ∀ (b : Nat) , b < 256 → zX8_readSign_63 (Int32.ofNat b) τ = zX8_readSign_146 (Int32.ofNat b) (q01 (qsg b)) τ := by
      intro b hb
      have d : ∀ c, c < 256 → (Int32.ofNat b = Int32.ofNat c ↔ b = c) := fun c hc => p_eqN b c (by omega) (by omega)
      have cs : b = 40 ∨ b = 41 ∨ b = 44 ∨ b = 58 ∨ b = 43 ∨ b = 45 ∨ b = 42 ∨ b = 47 ∨ b = 38 ∨ b = 124 ∨ b = 94 ∨ b = 126 ∨ b = 64 ∨ (b ≠ 40 ∧ b ≠ 41 ∧ b ≠ 44 ∧ b ≠ 58 ∧ b ≠ 43 ∧ b ≠ 45 ∧ b ≠ 42 ∧ b ≠ 47 ∧ b ≠ 38 ∧ b ≠ 124 ∧ b ≠ 94 ∧ b ≠ 126 ∧ b ≠ 64) := by omega
      rcases cs with h | h | h | h | h | h | h | h | h | h | h | h | h | ⟨h1, h2, h3, h4, h5, h6, h7, h8, h9, h10, h11, h12, h13⟩
      iterate 13 (subst h; rfl)
      unfold zX8_readSign_63
      rw [if_neg (show ¬ Int32.ofNat b = 40 from fun e => h1 ((d 40 (by omega)).1 e)), if_neg (show ¬ Int32.ofNat b = 41 from fun e => h2 ((d 41 (by omega)).1 e)), if_neg (show ¬ Int32.ofNat b = 44 from fun e => h3 ((d 44 (by omega)).1 e)), if_neg (show ¬ Int32.ofNat b = 58 from fun e => h4 ((d 58 (by omega)).1 e)), if_neg (show ¬ Int32.ofNat b = 43 from fun e => h5 ((d 43 (by omega)).1 e)), if_neg (show ¬ Int32.ofNat b = 45 from fun e => h6 ((d 45 (by omega)).1 e)), if_neg (show ¬ Int32.ofNat b = 42 from fun e => h7 ((d 42 (by omega)).1 e)), if_neg (show ¬ Int32.ofNat b = 47 from fun e => h8 ((d 47 (by omega)).1 e)), if_neg (show ¬ Int32.ofNat b = 38 from fun e => h9 ((d 38 (by omega)).1 e)), if_neg (show ¬ Int32.ofNat b = 124 from fun e => h10 ((d 124 (by omega)).1 e)), if_neg (show ¬ Int32.ofNat b = 94 from fun e => h11 ((d 94 (by omega)).1 e)), if_neg (show ¬ Int32.ofNat b = 126 from fun e => h12 ((d 126 (by omega)).1 e)), if_pos (show ¬ Int32.ofNat b = 64 from fun e => h13 ((d 64 (by omega)).1 e))]
      have : qsg b = false := by unfold qsg; simp [h1, h2, h3, h4, h5, h6, h7, h8, h9, h10, h11, h12, h13]
      rw [this]; rfl
    rw [k _ hb]
    unfold zX8_readSign_146
    by_cases c : qsg (B q) = true
    · rw [c, if_pos rfl, if_pos (show ¬ q01 true = 0 by decide), g.1, p_sucN]
      have ck : 6 < B q := by
        have : ∀ b, b < 256 → qsg b = true → 6 < b := by decide +kernel
        exact this _ hb c
      refine ⟨_, rfl, qFt_si (qFt_si (qFt_si (qFt_r τ) 3 _ (by omega)) 6 _ (by omega)) 2 _ (by omega), rfl, ?_, g.2.2.1, fun e => absurd e (show ¬ B q = 2 by omega), fun _ => ?_, ?_⟩
      · show (5 : Int32) = Int32.ofNat (qmk (B q))
        have : ∀ b, b < 256 → 6 < b → (5 : Int32) = Int32.ofNat (qmk b) := by decide +kernel
        exact this _ hb ck
      · show Int32.ofNat (B q) = Int32.ofNat (qmv (B q))
        unfold qmv; rw [if_neg (by omega), if_neg (by omega)]
      · rw [if_neg (show ¬ B q = 1 by omega)]; exact g.2.2.2
    · have c' : qsg (B q) = false := by cases e : qsg (B q); rfl; exact absurd e c
      rw [c', if_neg (by decide), if_neg (show ¬ ¬ q01 false = 0 by decide)]
      exact ⟨τ, rfl, qFt_r τ, qB0_bad g⟩
  unfold zX8_readSign
  rw [g.1, p_sucN, m_by hS h (q + 1) (by omega), fv_bi_ri]
  have e60 := p_eqN (B q) 60 (by omega) (by omega)
  have e62 := p_eqN (B q) 62 (by omega) (by omega)
  have e23 : (B q = 60 ∨ B q = 62) → qE0 B (if (B q = 60 ∨ B q = 62) ∧ B (q + 1) = B q then (if B q = 60 then 4 else 5, q, q + 2, 0) else if qsg (B q) then (B q, q, q + 1, 0) else (6, q, q, 0)) τ (zX8_readSign_23 (Int32.ofNat (B q)) (Int32.ofNat (B (q + 1))) τ) := by
    intro c
    unfold zX8_readSign_23
    by_cases c2 : B (q + 1) = B q
    · rw [if_pos ⟨c, c2⟩, c2, if_neg (show ¬ ¬ Int32.ofNat (B q) = Int32.ofNat (B q) from not_not_intro rfl)]
      rcases c with c | c
      · rw [c, if_pos rfl, if_neg (show ¬ ¬ Int32.ofNat 60 = 60 from not_not_intro rfl)]
        refine ⟨fv_si (fv_si (fv_si τ 3 5) 6 300) 2 (Int32.ofNat (q + 2)), ?_, qFt_si (qFt_si (qFt_si (qFt_r τ) 3 _ (by omega)) 6 _ (by omega)) 2 _ (by omega), rfl, rfl, g.2.2.1, fun e => absurd e (show ¬ (4 : Nat) = 2 by omega), fun _ => rfl, g.2.2.2⟩
        unfold zX8_readSign_49
        rw [show fv_gi (fv_si τ 3 5) 2 = Int32.ofNat q from g.1]
        rw [show Int32.ofNat q + 2 = Int32.ofNat (q + 2) from (Int32.ofNat_add q 2).symm]
      · rw [c, if_neg (by omega), if_pos (show ¬ Int32.ofNat 62 = 60 by decide)]
        refine ⟨fv_si (fv_si (fv_si τ 3 5) 6 301) 2 (Int32.ofNat (q + 2)), ?_, qFt_si (qFt_si (qFt_si (qFt_r τ) 3 _ (by omega)) 6 _ (by omega)) 2 _ (by omega), rfl, rfl, g.2.2.1, fun e => absurd e (show ¬ (5 : Nat) = 2 by omega), fun _ => rfl, g.2.2.2⟩
        unfold zX8_readSign_49
        rw [show fv_gi (fv_si τ 3 5) 2 = Int32.ofNat q from g.1]
        rw [show Int32.ofNat q + 2 = Int32.ofNat (q + 2) from (Int32.ofNat_add q 2).symm]
    · rw [if_neg (fun e => c2 e.2), if_pos (fun e => c2 ((p_eqN _ _ (by have := hS.2.1 (q + 1); omega) (by omega)).1 e))]
      exact e63
  by_cases c : B q = 60
  · rw [if_pos (show Int32.ofNat (B q) = 60 from e60.2 c)]; exact e23 (Or.inl c)
  · rw [if_neg (show ¬ Int32.ofNat (B q) = 60 from fun e => c (e60.1 e))]
    by_cases c2 : B q = 62
    · rw [if_neg (show ¬ ¬ Int32.ofNat (B q) = 62 from not_not_intro (e62.2 c2))]; exact e23 (Or.inr c2)
    · rw [if_pos (show ¬ Int32.ofNat (B q) = 62 from fun e => c2 (e62.1 e)), if_neg (by omega)]; exact e63
theorem m_dig {B : Nat → Nat} {n q s r : Nat} (hS : qS B n) (hr : r ≤ 16) (hr2 : 2 ≤ r) (hs : s ≤ 6100) (N : Nat) {τ : fv_S} (h : qM B n τ) (g : qB0 q τ) : ∀ (d k v m : Nat), n - k = d → s ≤ k → k ≤ 6100 → v ≤ 1048576 → d + 1 ≤ m → 
    qE0 B (if (qnum B n r k v).1 = s ∨ 65535 < (qnum B n r k v).2 then (6, q, q, 0) else (2, q, (qnum B n r k v).1, (qnum B n r k v).2)) τ (zX8_digits_5 N m (Int32.ofNat r) (Int32.ofNat s) (Int32.ofNat k) (Int32.ofNat v) τ) := by
  have hn := hS.1
  have fin : ∀ (k v : Nat), k ≤ 6100 → v ≤ 1048576 → s ≤ k → qE0 B (if k = s ∨ 65535 < v then (6, q, q, 0) else (2, q, k, v)) τ (if Int32.ofNat k = Int32.ofNat s then fv_rv τ else if Int32.ofNat v ≤ 65535 then fv_rv (fv_si (fv_si (fv_si τ 3 3) 6 (Int32.ofNat v)) 2 (Int32.ofNat k)) else fv_rv τ) := by
    intro k v hk hv hsk
    by_cases c : k = s
    · rw [if_pos (Or.inl c), if_pos (by rw [c])]; exact ⟨τ, rfl, qFt_r τ, qB0_bad g⟩
    · rw [if_neg (show ¬ Int32.ofNat k = Int32.ofNat s from fun e => c ((p_eqN k s (by omega) (by omega)).1 e))]
      by_cases c2 : 65535 < v
      · rw [if_pos (Or.inr c2), if_neg (show ¬ Int32.ofNat v ≤ 65535 from fun e => by have := (p_leN v 65535 (by omega) (by omega)).1 e; omega)]
        exact ⟨τ, rfl, qFt_r τ, qB0_bad g⟩
      · rw [if_neg (by omega), if_pos (show Int32.ofNat v ≤ 65535 from (p_leN v 65535 (by omega) (by omega)).2 (by omega))]
        exact ⟨_, rfl, qFt_si (qFt_si (qFt_si (qFt_r τ) 3 _ (by omega)) 6 _ (by omega)) 2 _ (by omega), rfl, rfl, g.2.2.1, fun _ => rfl, fun e => absurd e (show ¬ ((2 : Nat) = 4 ∨ (2 : Nat) = 5 ∨ 6 < 2) by omega), g.2.2.2⟩
  intro d
  induction d with
  | zero =>
    intro k v m e hsk hk hv hm
    obtain ⟨m, rfl⟩ : ∃ j, m = j + 1 := ⟨m - 1, by omega⟩
    have hb := hS.2.2 k (by omega)
    have e1 : qnum B n r k v = (k, v) := by unfold qnum; rw [e]; rfl
    rw [e1]
    show qE0 _ _ _ (zX8_digits_5_b _ _ _ _ _ _ _)
    unfold zX8_digits_5_b
    rw [m_by hS h k (by omega), fv_bi_ri, m_wo _ (hS.2.1 k), fv_bi_ri, hb, if_pos (show Int32.ofNat r ≤ Int32.ofNat (qwo 10) from (p_leN r 99 (by omega) (by omega)).2 (by omega))]
    exact fin k v hk hv hsk
  | succ d ih =>
    intro k v m e hsk hk hv hm
    obtain ⟨m, rfl⟩ : ∃ j, m = j + 1 := ⟨m - 1, by omega⟩
    have w99 := qwo_lt (B k)
    show qE0 _ _ _ (zX8_digits_5_b _ _ _ _ _ _ _)
    unfold zX8_digits_5_b
    rw [m_by hS h k (by omega), fv_bi_ri, m_wo _ (hS.2.1 k), fv_bi_ri]
    by_cases c : qwo (B k) < r
    · have e1 : qnum B n r k v = qnum B n r (k + 1) (if 65535 < v then v else v * r + qwo (B k)) := by
        unfold qnum; rw [e, show n - (k + 1) = d by omega]
        show (if qwo (B k) < r then _ else _) = _
        rw [if_pos c]
      rw [e1, if_neg (show ¬ Int32.ofNat r ≤ Int32.ofNat (qwo (B k)) from fun e => by have := (p_leN r (qwo (B k)) (by omega) (by omega)).1 e; omega)]
      by_cases c2 : 65535 < v
      · rw [if_pos c2, if_neg (show ¬ Int32.ofNat v ≤ 65535 from fun e => by have := (p_leN v 65535 (by omega) (by omega)).1 e; omega), p_sucN]
        exact ih (k + 1) v m (by omega) (by omega) (by omega) hv (by omega)
      · rw [if_neg c2, if_pos (show Int32.ofNat v ≤ 65535 from (p_leN v 65535 (by omega) (by omega)).2 (by omega)), m_by hS h k (by omega), fv_bi_ri, m_wo _ (hS.2.1 k), fv_bi_ri, p_sucN, ← Int32.ofNat_mul, ← Int32.ofNat_add]
        have : v * r ≤ 65535 * 16 := Nat.mul_le_mul (by omega) hr
        exact ih (k + 1) (v * r + qwo (B k)) m (by omega) (by omega) (by omega) (by omega) (by omega)
    · have e1 : qnum B n r k v = (k, v) := by
        unfold qnum; rw [e]
        show (if qwo (B k) < r then _ else _) = _
        rw [if_neg c]
      rw [e1, if_pos (show Int32.ofNat r ≤ Int32.ofNat (qwo (B k)) from (p_leN r (qwo (B k)) (by omega) (by omega)).2 (by omega))]
      exact fin k v hk hv hsk
theorem m_txt {B : Nat → Nat} {n q : Nat} (hS : qS B n) (N : Nat) {τ : fv_S} (h : qM B n τ) (g : qB0 q τ) : ∀ (d k m : Nat), n - k = d → k ≤ 6100 → d + 1 ≤ m → 
    qE B (if B (qrun (fun i => qtx (B i)) n k) = 34 then (3, q, qrun (fun i => qtx (B i)) n k + 1, 0) else (6, q, q, 0)) τ (zX8_next_255 N m (Int32.ofNat k) τ) := by
  have hn := hS.1
  have fin : ∀ k, k ≤ 6100 → qE B (if B k = 34 then (3, q, k + 1, 0) else (6, q, q, 0)) τ (zX8_next_291 N (Int32.ofNat k) τ) := by
    intro k hk
    unfold zX8_next_291
    rw [m_by hS h k (by omega), fv_bi_ri]
    have e34 := p_eqN (B k) 34 (by have := hS.2.1 k; omega) (by omega)
    by_cases c : B k = 34
    · rw [if_pos c, if_neg (show ¬ ¬ Int32.ofNat (B k) = 34 from not_not_intro (e34.2 c)), p_sucN]
      have f := qFt_si (qFt_si (qFt_r τ) 3 4 (by omega)) 2 (Int32.ofNat (k + 1)) (by omega)
      exact qE_t f (m_321 ⟨rfl, rfl, g.2.2.1, fun e => absurd e (show ¬ (3 : Nat) = 2 by omega), fun e => absurd e (show ¬ ((3 : Nat) = 4 ∨ (3 : Nat) = 5 ∨ 6 < 3) by omega), g.2.2.2⟩)
    · rw [if_neg c, if_pos (show ¬ Int32.ofNat (B k) = 34 from fun e => c (e34.1 e))]
      exact m_321 (qB0_bad g)
  intro d
  induction d with
  | zero =>
    intro k m e hk hm
    obtain ⟨m, rfl⟩ : ∃ j, m = j + 1 := ⟨m - 1, by omega⟩
    have hb := hS.2.2 k (by omega)
    rw [qrun_n (by omega)]
    show qE _ _ _ (zX8_next_255_b _ _ _ _)
    unfold zX8_next_255_b
    rw [m_by hS h k (by omega), fv_bi_ri, hb, if_pos (show Int32.ofNat 10 < 32 by decide), ← hb]
    exact fin k hk
  | succ d ih =>
    intro k m e hk hm
    obtain ⟨m, rfl⟩ : ∃ j, m = j + 1 := ⟨m - 1, by omega⟩
    have hb := hS.2.1 k
    show qE _ _ _ (zX8_next_255_b _ _ _ _)
    unfold zX8_next_255_b
    rw [m_by hS h k (by omega), fv_bi_ri]
    by_cases c1 : B k < 32
    · rw [qrun_e (by unfold qtx qsh; simp; omega), if_pos (show Int32.ofNat (B k) < 32 from (p_ltN (B k) 32 (by omega) (by omega)).2 c1)]
      exact fin k hk
    · rw [if_neg (show ¬ Int32.ofNat (B k) < 32 from fun e => c1 ((p_ltN (B k) 32 (by omega) (by omega)).1 e)), m_by hS h k (by omega), fv_bi_ri]
      by_cases c2 : 126 < B k
      · rw [qrun_e (by unfold qtx qsh; simp; omega), if_pos (show 126 < Int32.ofNat (B k) from (p_ltN 126 (B k) (by omega) (by omega)).2 c2)]
        exact fin k hk
      · rw [if_neg (show ¬ 126 < Int32.ofNat (B k) from fun e => c2 ((p_ltN 126 (B k) (by omega) (by omega)).1 e)), m_by hS h k (by omega), fv_bi_ri]
        by_cases c3 : B k = 34
        · rw [qrun_e (by unfold qtx; simp [c3]), if_pos (show Int32.ofNat (B k) = 34 from (p_eqN (B k) 34 (by omega) (by omega)).2 c3)]
          exact fin k hk
        · rw [qrun_s (by omega) (by unfold qtx qsh; simp [c3]; omega), if_neg (show ¬ Int32.ofNat (B k) = 34 from fun e => c3 ((p_eqN (B k) 34 (by omega) (by omega)).1 e)), p_sucN]
          exact ih (k + 1) m (by omega) (by omega) (by omega)
theorem qnm_len (B : Nat → Nat) : ∀ k q, (qnm B q k).length = k := by
  intro k
  induction k with
  | zero => intro q; rfl
  | succ k ih => intro q; show (_ :: qnm B (q + 1) k).length = _; rw [List.length_cons, ih]
theorem qnm_s (B : Nat → Nat) : ∀ k q, qnm B q (k + 1) = qnm B q k ++ [qcap (B (q + k))] := by
  intro k
  induction k with
  | zero => intro q; rfl
  | succ k ih => intro q; show _ :: qnm B (q + 1) (k + 1) = _ :: _; rw [ih (q + 1), show q + 1 + k = q + (k + 1) by omega]; rfl
theorem qpk_s (l : List Nat) (c : Nat) : qpk (l ++ [c]) = qpk l * 256 + c := by unfold qpk; rw [List.foldl_append]; rfl
theorem qcap_lt (b : Nat) (h : b < 256) : qcap b < 256 := by unfold qcap; split <;> omega
theorem qpk_lt (B : Nat → Nat) (hB : ∀ i, B i < 256) (q : Nat) : ∀ k, qpk (qnm B q k) < 256 ^ k := by
  intro k
  induction k with
  | zero => exact Nat.zero_lt_one
  | succ k ih =>
    rw [qnm_s, qpk_s, Nat.pow_succ]
    have := qcap_lt _ (hB (q + k))
    omega
theorem p_sh8 (a c : Nat) (ha : a < 2 ^ 56) (hc : c < 256) : ((Int64.ofNat a) <<< (((8 : Int32).toInt64) &&& (63 : Int64))) ||| Int32.toInt64 (Int32.ofNat c) = Int64.ofNat (a * 256 + c) := by
  have e8 : ((8 : Int32).toInt64 &&& (63 : Int64)) = 8 := by decide
  rw [e8]
  have ec : ∀ c, c < 256 → Int32.toInt64 (Int32.ofNat c) = Int64.ofNat c := by decide +kernel
  rw [ec c hc]
  apply Int64.toBitVec_inj.1
  rw [Int64.toBitVec_or, Int64.toBitVec_shiftLeft]
  apply BitVec.eq_of_toNat_eq
  rw [BitVec.toNat_or]
  have e2 : ((8 : Int64).toBitVec.smod 64) = 8#64 := by decide
  rw [e2]
  show ((Int64.ofNat a).toBitVec <<< (8#64)).toNat ||| (Int64.ofNat c).toBitVec.toNat = (Int64.ofNat (a * 256 + c)).toBitVec.toNat
  have t : ∀ m, m < 2 ^ 64 → (Int64.ofNat m).toBitVec.toNat = m := by
    intro m hm
    show (BitVec.ofNat 64 m).toNat = m
    rw [BitVec.toNat_ofNat]; exact Nat.mod_eq_of_lt hm
  rw [t c (by omega), t (a * 256 + c) (by omega), BitVec.shiftLeft_eq', BitVec.toNat_shiftLeft, t a (by omega)]
  show (a <<< 8) % 2 ^ 64 ||| c = _
  rw [Nat.shiftLeft_eq, Nat.mod_eq_of_lt (by omega), ← Nat.shiftLeft_eq, Nat.shiftLeft_add_eq_or_of_lt (show c < 2 ^ 8 from hc) a |>.symm, Nat.shiftLeft_eq]
theorem lg_eq (a b : Int64) : lg_cmp a b = 0 ↔ a = b := by
  unfold lg_cmp
  constructor
  · intro h
    by_cases c : b < a
    · rw [if_pos c] at h; exact absurd h (by decide)
    · rw [if_neg c] at h
      by_cases d : a = b
      · exact d
      · rw [if_neg d] at h; exact absurd h (by decide)
  · intro h; subst h; rw [if_neg (Int64.lt_irrefl), if_pos rfl]
