set_option maxRecDepth 100000
set_option maxHeartbeats 4000000
/-! The plain law: the class's tokens. -/
def qX (B : Nat → Nat) (n : Nat) (σ : fv_S) : Prop := fv_gi σ 1665 = Int32.ofNat n ∧ ∀ i, i < n → fv_gw σ 14 i = p_se (Int32.ofNat (B i)) ∧ fv_gw σ 15 i = p_se (Int32.ofNat (qcap (B i)))
def qxs (B : Nat → Nat) (n p : Nat) : Int32 := if p < n then p_se (Int32.ofNat (qcap (B p))) else -1
def qxb (B : Nat → Nat) (n p : Nat) : Int32 := if p < n then p_se (Int32.ofNat (B p)) else -1
def qGx (σ σ' : fv_S) : Prop := (∀ k, k < 1667 ∨ 1672 < k → fv_gi σ' k = fv_gi σ k) ∧ σ'.2 = σ.2
theorem qGx_r (σ : fv_S) : qGx σ σ := ⟨fun _ _ => rfl, rfl⟩
theorem qGx_t {a b c : fv_S} (h : qGx a b) (g : qGx b c) : qGx a c := ⟨fun k hk => (g.1 k hk).trans (h.1 k hk), g.2.trans h.2⟩
theorem qGx_si {a b : fv_S} (h : qGx a b) (k : Nat) (v : Int32) (hk : 1667 ≤ k ∧ k ≤ 1672) : qGx a (fv_si b k v) := ⟨fun j hj => (if_neg (show j ≠ k by omega)).trans (h.1 j hj), h.2⟩
theorem qX_f {B : Nat → Nat} {n : Nat} {σ σ' : fv_S} (h : qX B n σ) (f : qGx σ σ') : qX B n σ' := by
  refine ⟨(f.1 1665 (by omega)).trans h.1, ?_⟩
  show ∀ i, i < n → σ'.2.2.1 14 i = _ ∧ σ'.2.2.1 15 i = _
  rw [f.2]; exact h.2
theorem x_sg {B : Nat → Nat} {n : Nat} {σ : fv_S} (hS : qS B n) (h : qX B n σ) (p : Nat) (hp : p < 100000) : zX4_signAt (Int32.ofNat p) σ = fv_ri (qxs B n p) σ := by
  have hn := hS.1
  unfold zX4_signAt qxs
  rw [h.1]
  by_cases c : n ≤ p
  · rw [if_pos ((p_leN n p (by omega) (by omega)).2 c), if_neg (by omega)]
  · obtain ⟨i1, i2⟩ := p_inN p 6000 (by omega) (by omega)
    rw [if_neg (fun e => c ((p_leN n p (by omega) (by omega)).1 e)), if_pos i1, if_pos (by omega)]
    show fv_ri (fv_gw σ 15 (Int32.ofNat p).toNatClampNeg) σ = _
    rw [i2, (h.2 p (by omega)).2]
theorem x_by {B : Nat → Nat} {n : Nat} {σ : fv_S} (hS : qS B n) (h : qX B n σ) (p : Nat) (hp : p < 100000) : zX4_byteAt (Int32.ofNat p) σ = fv_ri (qxb B n p) σ := by
  have hn := hS.1
  unfold zX4_byteAt qxb
  rw [h.1]
  by_cases c : n ≤ p
  · rw [if_pos ((p_leN n p (by omega) (by omega)).2 c), if_neg (by omega)]
  · obtain ⟨i1, i2⟩ := p_inN p 6000 (by omega) (by omega)
    rw [if_neg (fun e => c ((p_leN n p (by omega) (by omega)).1 e)), if_pos i1, if_pos (by omega)]
    show fv_ri (fv_gw σ 14 (Int32.ofNat p).toNatClampNeg) σ = _
    rw [i2, (h.2 p (by omega)).1]
/-- what a sign of the class is asked for: it holds for an octet as the model's sign says, and not behind the end -/
theorem x_cls {f : Int32 → fv_S → Option fv_O} {g : Nat → Int32} (k : ∀ x, p_K (f x)) (fin : ∀ b, b < 256 → p_v (f (p_se (Int32.ofNat (qcap b))) p_σd) = g b) (f0 : p_v (f (-1) p_σd) = g 10) {B : Nat → Nat} {n : Nat} (hS : qS B n) (p : Nat) (σ : fv_S) : f (qxs B n p) σ = fv_ri (g (B p)) σ := by
  rw [p_Kv (k _) σ]
  unfold qxs
  by_cases c : p < n
  · rw [if_pos c, fin _ (hS.2.1 p)]
  · rw [if_neg c, f0, hS.2.2 p (by omega)]
theorem x_Kst (x : Int32) : p_K (fun σ => zX4_isNameStart x σ) := by
  unfold zX4_isNameStart zX4_isNameStart_12; repeat (first | exact p_Kr _ | with_reducible apply p_Ki)
theorem x_Kdg (x : Int32) : p_K (fun σ => zX4_isDigit x σ) := by
  unfold zX4_isDigit; repeat (first | exact p_Kr _ | with_reducible apply p_Ki)
theorem x_Knp (x : Int32) : p_K (fun σ => zX4_isNamePart x σ) := by
  unfold zX4_isNamePart
  refine p_Kb (x_Kst _) (fun r => ?_)
  with_reducible apply p_Ki
  · exact p_Kr _
  · refine p_Kb (x_Kdg _) (fun r => ?_)
    repeat (first | exact p_Kr _ | with_reducible apply p_Ki)
theorem x_Kdi (y x : Int32) : p_K (fun σ => zX4_digit x y σ) := by
  unfold zX4_digit zX4_digit_36 zX4_digit_37
  refine p_Kb (x_Kdg _) (fun r => ?_)
  repeat (first | exact p_Kr _ | with_reducible apply p_Ki)
theorem x_st {B : Nat → Nat} {n : Nat} (hS : qS B n) (p : Nat) (σ : fv_S) : zX4_isNameStart (qxs B n p) σ = fv_ri (q01 (qst (B p))) σ := x_cls (f := fun x σ => zX4_isNameStart x σ) (g := fun b => q01 (qst b)) x_Kst (by decide +kernel) (by decide +kernel) hS p σ
theorem x_np {B : Nat → Nat} {n : Nat} (hS : qS B n) (p : Nat) (σ : fv_S) : zX4_isNamePart (qxs B n p) σ = fv_ri (q01 (qnp (B p))) σ := x_cls (f := fun x σ => zX4_isNamePart x σ) (g := fun b => q01 (qnp b)) x_Knp (by decide +kernel) (by decide +kernel) hS p σ
theorem x_dg {B : Nat → Nat} {n : Nat} (hS : qS B n) (p : Nat) (σ : fv_S) : zX4_isDigit (qxs B n p) σ = fv_ri (q01 (qdg (B p))) σ := x_cls (f := fun x σ => zX4_isDigit x σ) (g := fun b => q01 (qdg b)) x_Kdg (by decide +kernel) (by decide +kernel) hS p σ
theorem x_di {B : Nat → Nat} {n r : Nat} (hr : r = 2 ∨ r = 10 ∨ r = 16) (hS : qS B n) (p : Nat) (σ : fv_S) : zX4_digit (qxs B n p) (Int32.ofNat r) σ = fv_ri (if qwo (B p) < r then Int32.ofNat (qwo (B p)) else -1) σ := by
  rcases hr with rfl | rfl | rfl
  · exact x_cls (f := fun x σ => zX4_digit x (Int32.ofNat 2) σ) (g := fun b => if qwo b < 2 then Int32.ofNat (qwo b) else -1) (x_Kdi _) (by decide +kernel) (by decide +kernel) hS p σ
  · exact x_cls (f := fun x σ => zX4_digit x (Int32.ofNat 10) σ) (g := fun b => if qwo b < 10 then Int32.ofNat (qwo b) else -1) (x_Kdi _) (by decide +kernel) (by decide +kernel) hS p σ
  · exact x_cls (f := fun x σ => zX4_digit x (Int32.ofNat 16) σ) (g := fun b => if qwo b < 16 then Int32.ofNat (qwo b) else -1) (x_Kdi _) (by decide +kernel) (by decide +kernel) hS p σ
/-- signs that are no letters -/
def qnl (c : Nat) : Bool := c == 59 || c == 36 || c == 37 || c == 39 || c == 34 || c == 60 || c == 62 || c == 58 || c == 41 || c == 43 || c == 45 || c == 44
theorem x_eqc {B : Nat → Nat} {n : Nat} (hS : qS B n) (p c : Nat) (hc : c < 128) (h : qnl c = true) : qxs B n p = Int32.ofNat c ↔ B p = c := by
  unfold qxs
  by_cases d : p < n
  · rw [if_pos d]
    have : ∀ c, c < 128 → qnl c = true → ∀ b, b < 256 → (p_se (Int32.ofNat (qcap b)) = Int32.ofNat c ↔ b = c) := by decide +kernel
    exact this c hc h _ (hS.2.1 p)
  · rw [if_neg d, hS.2.2 p (by omega)]
    have : ∀ c, c < 128 → qnl c = true → (-1 = Int32.ofNat c ↔ 10 = c) := by decide +kernel
    exact this c hc h
theorem x_eqp {B : Nat → Nat} {n : Nat} (hS : qS B n) (p q : Nat) (hp : p < n) : qxs B n q = qxs B n p → (B p = 60 ∨ B p = 62) → B q = B p := by
  intro h c
  rcases c with c | c
  · rw [c]; rw [(x_eqc hS p 60 (by omega) rfl).2 c] at h; exact (x_eqc hS q 60 (by omega) rfl).1 h
  · rw [c]; rw [(x_eqc hS p 62 (by omega) rfl).2 c] at h; exact (x_eqc hS q 62 (by omega) rfl).1 h
def qxk (n : Nat) (t : qTok) : Int32 := if t.1 = 0 then (if t.2.1 < n then 10 else 0) else Int32.ofNat t.1
/-- the class holds a token -/
def qXt (n : Nat) (t : qTok) (σ : fv_S) : Prop := fv_gi σ 1668 = 1 ∧ fv_gi σ 1669 = qxk n t ∧ fv_gi σ 1670 = Int32.ofNat t.2.1 ∧ (t.1 ≠ 6 → t.1 ≠ 0 → fv_gi σ 1671 = Int32.ofNat (t.2.2.1 - t.2.1)) ∧ (t.1 = 0 → fv_gi σ 1667 = Int32.ofNat t.2.1) ∧ (t.1 = 2 → fv_gi σ 1672 = Int32.ofNat t.2.2.2)
def qEx (n : Nat) (t : qTok) (σ : fv_S) (o : Option fv_O) : Prop := ∃ σ', o = fv_rv σ' ∧ qGx σ σ' ∧ qXt n t σ'
theorem qEx_t {n : Nat} {t : qTok} {σ0 σ : fv_S} {o : Option fv_O} (f : qGx σ0 σ) (h : qEx n t σ o) : qEx n t σ0 o := by
  obtain ⟨σ', x, g, k⟩ := h; exact ⟨σ', x, qGx_t f g, k⟩
theorem qEx_b {n : Nat} {t : qTok} {σ : fv_S} {o : Option fv_O} (h : qEx n t σ o) : qEx n t σ (fv_bv o (fun s => fv_rv s) fv_no) := by
  obtain ⟨σ', rfl, g, k⟩ := h; exact ⟨σ', rfl, g, k⟩
/-- the state at a token's first sign -/
def qX0 (q : Nat) (σ : fv_S) : Prop := fv_gi σ 1667 = Int32.ofNat q ∧ fv_gi σ 1670 = Int32.ofNat q ∧ fv_gi σ 1668 = 1
theorem x_bk {B : Nat → Nat} {n : Nat} (hS : qS B n) (N : Nat) : ∀ (d p m : Nat) (σ : fv_S), n - p = d → p ≤ n → d + 1 ≤ m → qX B n σ → fv_gi σ 1667 = Int32.ofNat p → ∃ σ', zX4_skipBlanks_0 N m σ = fv_rv σ' ∧ qGx σ σ' ∧ fv_gi σ' 1667 = Int32.ofNat (qrun (fun i => qbl (B i)) n p) ∧ (∀ k, k ≠ 1667 → fv_gi σ' k = fv_gi σ k) := by
  have hn := hS.1
  intro d
  induction d with
  | zero =>
    intro p m σ e hp hm h h1
    obtain ⟨m, rfl⟩ : ∃ j, m = j + 1 := ⟨m - 1, by omega⟩
    rw [qrun_n (by omega)]
    refine ⟨σ, ?_, qGx_r σ, h1, fun _ _ => rfl⟩
    show zX4_skipBlanks_0_b _ _ _ = _
    unfold zX4_skipBlanks_0_b
    rw [h.1, h1, if_pos ((p_leN n p (by omega) (by omega)).2 (by omega))]
  | succ d ih =>
    intro p m σ e hp hm h h1
    obtain ⟨m, rfl⟩ : ∃ j, m = j + 1 := ⟨m - 1, by omega⟩
    obtain ⟨i1, i2⟩ := p_inN p 6000 (by omega) (by omega)
    have hv : fv_ga σ 14 (Int32.ofNat p) = p_se (Int32.ofNat (B p)) := by
      show fv_gw σ 14 (Int32.ofNat p).toNatClampNeg = _; rw [i2, (h.2 p (by omega)).1]
    have hc : ∀ b, b < 256 → (p_se (Int32.ofNat b) = 32 ↔ b = 32) ∧ (p_se (Int32.ofNat b) = 9 ↔ b = 9) ∧ (p_se (Int32.ofNat b) = 13 ↔ b = 13) := by decide +kernel
    obtain ⟨a1, a2, a3⟩ := hc (B p) (hS.2.1 p)
    have eb : zX4_skipBlanks_0 N (m + 1) σ = if qbl (B p) = true then zX4_skipBlanks_0 N m (fv_si σ 1667 (Int32.ofNat (p + 1))) else fv_rv σ := by
      show zX4_skipBlanks_0_b _ _ _ = _
      unfold zX4_skipBlanks_0_b zX4_skipBlanks_53
      rw [h.1, h1, if_neg (fun c => by have := (p_leN n p (by omega) (by omega)).1 c; omega), if_pos i1, hv, p_sucN]
      by_cases c1 : B p = 32
      · rw [if_pos (a1.2 c1), if_pos (by rw [c1]; rfl)]
      · rw [if_neg (fun e => c1 (a1.1 e)), if_pos i1]
        by_cases c2 : B p = 9
        · rw [if_pos (a2.2 c2), if_pos (by rw [c2]; rfl)]
        · rw [if_neg (fun e => c2 (a2.1 e)), if_pos i1]
          by_cases c3 : B p = 13
          · rw [if_neg (not_not_intro (a3.2 c3)), if_pos (by rw [c3]; rfl)]
          · rw [if_pos (fun e => c3 (a3.1 e)), if_neg (by unfold qbl; simp [c1, c2, c3])]
    rw [eb]
    cases c : qbl (B p) with
    | false => rw [if_neg (by decide), qrun_e (P := fun i => qbl (B i)) c]; exact ⟨σ, rfl, qGx_r σ, h1, fun _ _ => rfl⟩
    | true =>
      rw [if_pos rfl, qrun_s (P := fun i => qbl (B i)) (by omega) c]
      have f := qGx_si (qGx_r σ) 1667 (Int32.ofNat (p + 1)) (by omega)
      obtain ⟨σ', x, g, y, z⟩ := ih (p + 1) m _ (by omega) (by omega) (by omega) (qX_f h f) rfl
      exact ⟨σ', x, qGx_t f g, y, fun k hk => (z k hk).trans (if_neg hk)⟩
theorem x_nam {B : Nat → Nat} {n q : Nat} (hS : qS B n) (N : Nat) (hq : q < n) : ∀ (d k m : Nat) (σ : fv_S), n - k = d → q < k → k ≤ n → d + 1 ≤ m → qX B n σ → qX0 q σ → fv_gi σ 1671 = Int32.ofNat (k - q) → qEx n (qTm B q (qrun (fun i => qnp (B i)) n k)) σ (zX4_scanName_5 N m σ) := by
  have hn := hS.1
  have fin : ∀ (k : Nat) (σ : fv_S), q < k → k ≤ n → qX B n σ → qX0 q σ → fv_gi σ 1671 = Int32.ofNat (k - q) → qnp (B k) = false → qEx n (qTm B q k) σ (if fv_gi σ 1671 ≤ 12 then zX4_scanName_53 N 1 σ else zX4_scanName_53 N 6 σ) := by
    intro k σ h1 h2 h g e hb
    have f6 : ∀ s, qGx σ (fv_si σ 1669 s) := fun s => qGx_si (qGx_r σ) 1669 s (by omega)
    rw [e]
    unfold zX4_scanName_53
    rw [g.2.1, e]
    have sa : ∀ s p, p < 100000 → zX4_signAt (Int32.ofNat p) (fv_si σ 1669 s) = fv_ri (qxs B n p) (fv_si σ 1669 s) := fun s p hp => x_sg hS (qX_f h (f6 s)) p hp
    have key : ∀ s : Int32, ∃ b : Bool, (b = true ↔ qnm B q (k - q) = [65, 70] ∧ B k = 39) ∧ (if ¬ Int32.ofNat (k - q) = 2 then zX4_scanName_111 N (fv_si σ 1669 s) else fv_bi (zX4_signAt (Int32.ofNat q) (fv_si σ 1669 s)) (fun r2 σ1 => if ¬ r2 = 65 then zX4_scanName_111 N σ1 else fv_bi (zX4_signAt (fv_gi σ1 1670 + 1) σ1) (fun r4 σ3 => if ¬ r4 = 70 then zX4_scanName_111 N σ3 else fv_bi (zX4_signAt (fv_gi σ3 1670 + 2) σ3) (fun r6 σ5 => if ¬ r6 = 39 then zX4_scanName_111 N σ5 else zX4_scanName_112 N 1 σ5) fv_no) fv_no) fv_no) = zX4_scanName_112 N (q01 b) (fv_si σ 1669 s) := by
      intro s
      by_cases c0 : k - q = 2
      · have ek : k = q + 2 := by omega
        have hl : qnm B q (k - q) = [qcap (B q), qcap (B (q + 1))] := by rw [c0]; rfl
        rw [if_neg (show ¬ ¬ Int32.ofNat (k - q) = 2 by rw [c0]; exact not_not_intro rfl), sa s q (by omega), fv_bi_ri]
        have ea : ∀ b, b < 256 → (p_se (Int32.ofNat (qcap b)) = 65 ↔ qcap b = 65) ∧ (p_se (Int32.ofNat (qcap b)) = 70 ↔ qcap b = 70) := by decide +kernel
        by_cases c1 : qcap (B q) = 65
        · rw [if_neg (show ¬ ¬ qxs B n q = 65 by unfold qxs; rw [if_pos hq]; exact not_not_intro ((ea _ (hS.2.1 q)).1.2 c1))]
          rw [show fv_gi (fv_si σ 1669 s) 1670 = Int32.ofNat q from g.2.1, p_sucN, sa s (q + 1) (by omega), fv_bi_ri]
          by_cases c2 : qcap (B (q + 1)) = 70
          · rw [if_neg (show ¬ ¬ qxs B n (q + 1) = 70 by unfold qxs; rw [if_pos (by omega)]; exact not_not_intro ((ea _ (hS.2.1 (q + 1))).2.2 c2))]
            rw [show fv_gi (fv_si σ 1669 s) 1670 = Int32.ofNat q from g.2.1, show Int32.ofNat q + 2 = Int32.ofNat (q + 2) from (Int32.ofNat_add q 2).symm, sa s (q + 2) (by omega), fv_bi_ri]
            by_cases c3 : B k = 39
            · refine ⟨true, ⟨fun _ => ⟨by rw [hl, c1, c2], c3⟩, fun _ => rfl⟩, ?_⟩
              rw [if_neg (show ¬ ¬ qxs B n (q + 2) = 39 from not_not_intro ((x_eqc hS (q + 2) 39 (by omega) rfl).2 (ek ▸ c3)))]; rfl
            · refine ⟨false, ⟨fun e => absurd e (by decide), fun e => absurd e.2 c3⟩, ?_⟩
              rw [if_pos (show ¬ qxs B n (q + 2) = 39 from fun e => c3 (ek ▸ (x_eqc hS (q + 2) 39 (by omega) rfl).1 e))]; rfl
          · refine ⟨false, ⟨fun e => absurd e (by decide), fun e => absurd e.1 (by rw [hl]; simp [c2])⟩, ?_⟩
            rw [if_pos (show ¬ qxs B n (q + 1) = 70 by unfold qxs; rw [if_pos (by omega)]; exact fun e => c2 ((ea _ (hS.2.1 (q + 1))).2.1 e))]; rfl
        · refine ⟨false, ⟨fun e => absurd e (by decide), fun e => absurd e.1 (by rw [hl]; simp [c1])⟩, ?_⟩
          rw [if_pos (show ¬ qxs B n q = 65 by unfold qxs; rw [if_pos hq]; exact fun e => c1 ((ea _ (hS.2.1 q)).1.1 e))]; rfl
      · refine ⟨false, ⟨fun e => absurd e (by decide), fun e => absurd (congrArg List.length e.1) (by rw [qnm_len]; exact c0)⟩, ?_⟩
        rw [if_pos (show ¬ Int32.ofNat (k - q) = 2 from fun e => c0 ((p_eqN (k - q) 2 (by omega) (by omega)).1 e))]; rfl
    have end_ : ∀ (s : Int32) (b : Bool), zX4_scanName_112 N (q01 b) (fv_si σ 1669 s) = fv_rv (fv_si (fv_si σ 1669 s) 1671 (Int32.ofNat (k - q + (if b then 1 else 0)))) := by
      intro s b
      unfold zX4_scanName_112 zX4_scanName_127
      rw [show fv_gi (fv_si σ 1669 s) 1671 = Int32.ofNat (k - q) from e]
      cases b with
      | true => rw [if_neg (by decide), p_sucN]; rfl
      | false => rw [if_pos (by decide)]; simp
    by_cases c : k - q ≤ 12
    · rw [if_pos (show Int32.ofNat (k - q) ≤ 12 from (p_leN (k - q) 12 (by omega) (by omega)).2 c)]
      obtain ⟨b, hb2, kx⟩ := key 1
      rw [kx, end_]
      unfold qTm; rw [if_neg (by omega)]
      refine ⟨_, rfl, qGx_si (f6 1) 1671 _ (by omega), g.2.2, rfl, g.2.1, fun _ _ => ?_, fun e => absurd e (show ¬ (1 : Nat) = 0 by omega), fun e => absurd e (show ¬ (1 : Nat) = 2 by omega)⟩
      show Int32.ofNat (k - q + (if b then 1 else 0)) = Int32.ofNat ((if qnm B q (k - q) = [65, 70] ∧ B k = 39 then k + 1 else k) - q)
      cases b with
      | true => rw [if_pos (hb2.1 rfl), if_pos rfl]; congr 1; omega
      | false => rw [if_neg (fun e => absurd (hb2.2 e) (by decide)), if_neg (by decide)]; rfl
    · rw [if_neg (show ¬ Int32.ofNat (k - q) ≤ 12 from fun e => c ((p_leN (k - q) 12 (by omega) (by omega)).1 e))]
      obtain ⟨b, hb2, kx⟩ := key 6
      rw [kx, end_]
      unfold qTm; rw [if_pos (by omega)]
      exact ⟨_, rfl, qGx_si (f6 6) 1671 _ (by omega), g.2.2, rfl, g.2.1, fun e => absurd rfl e, fun e => absurd e (show ¬ (6 : Nat) = 0 by omega), fun e => absurd e (show ¬ (6 : Nat) = 2 by omega)⟩
  intro d
  induction d with
  | zero =>
    intro k m σ e h1 h2 hm h g e1
    obtain ⟨m, rfl⟩ : ∃ j, m = j + 1 := ⟨m - 1, by omega⟩
    have hb : qnp (B k) = false := by rw [hS.2.2 k (by omega)]; rfl
    rw [qrun_n (by omega)]
    show qEx _ _ _ (zX4_scanName_5_b _ _ _)
    unfold zX4_scanName_5_b
    rw [g.2.1, e1, ← Int32.ofNat_add, show q + (k - q) = k by omega, x_sg hS h k (by omega), fv_bi_ri, x_np hS, fv_bi_ri, hb, if_pos (show q01 false = 0 by decide)]
    exact fin k σ h1 h2 h g e1 hb
  | succ d ih =>
    intro k m σ e h1 h2 hm h g e1
    obtain ⟨m, rfl⟩ : ∃ j, m = j + 1 := ⟨m - 1, by omega⟩
    show qEx _ _ _ (zX4_scanName_5_b _ _ _)
    unfold zX4_scanName_5_b
    rw [g.2.1, e1, ← Int32.ofNat_add, show q + (k - q) = k by omega, x_sg hS h k (by omega), fv_bi_ri, x_np hS, fv_bi_ri]
    cases c : qnp (B k) with
    | false => rw [if_pos (show q01 false = 0 by decide), qrun_e (P := fun i => qnp (B i)) c]; exact fin k σ h1 h2 h g e1 c
    | true =>
      rw [if_neg (show ¬ q01 true = 0 by decide), qrun_s (P := fun i => qnp (B i)) (by omega) c, e1, p_sucN, show k - q + 1 = k + 1 - q by omega]
      have f := qGx_si (qGx_r σ) 1671 (Int32.ofNat (k + 1 - q)) (by omega)
      exact qEx_t f (ih (k + 1) m _ (by omega) (by omega) (by omega) (by omega) (qX_f h f) g rfl)
theorem l_i64 (r : Nat) (h : r < 2147483648) : Int32.toInt64 (Int32.ofNat r) = Int64.ofNat r := by
  apply Int64.toInt_inj.1
  rw [Int32.toInt_toInt64, p_ofn r h]
  exact (Int64.toInt_ofNat_of_lt (by omega)).symm
theorem l_lt (a b : Nat) (ha : a < 2 ^ 63) (hb : b < 2 ^ 63) : Int64.ofNat a < Int64.ofNat b ↔ a < b := by
  rw [Int64.lt_iff_toInt_lt, Int64.toInt_ofNat_of_lt ha, Int64.toInt_ofNat_of_lt hb]; omega
theorem l_gt (a b : Int64) : (0 : Int32) < lg_cmp a b ↔ b < a := by
  unfold lg_cmp
  by_cases c : b < a
  · rw [if_pos c]; exact ⟨fun _ => c, fun _ => by decide⟩
  · rw [if_neg c]
    by_cases d : a = b
    · rw [if_pos d]; exact ⟨fun e => absurd e (by decide), fun e => absurd e c⟩
    · rw [if_neg d]; exact ⟨fun e => absurd e (by decide), fun e => absurd e c⟩
theorem l_le (a b : Int64) : lg_cmp a b ≤ 0 ↔ ¬ b < a := by
  unfold lg_cmp
  by_cases c : b < a
  · rw [if_pos c]; exact ⟨fun e => absurd e (by decide), fun e => absurd c e⟩
  · rw [if_neg c]
    by_cases d : a = b
    · rw [if_pos d]; exact ⟨fun _ => c, fun _ => by decide⟩
    · rw [if_neg d]; exact ⟨fun _ => c, fun _ => by decide⟩
theorem x_nu {B : Nat → Nat} {n q s r : Nat} (hr : r = 2 ∨ r = 10 ∨ r = 16) (hS : qS B n) (N : Nat) (hq : q ≤ s) (hs : s ≤ n) : ∀ (d k V v m : Nat) (σ : fv_S), n - k = d → s ≤ k → k ≤ n → d + 1 ≤ m → V ≤ 100000 → (V = v ∧ v ≤ 65535 ∨ 65535 < V ∧ 65535 < v) → qX B n σ → qX0 q σ → fv_gi σ 1671 = Int32.ofNat (k - q) → qEx n (if (qnum B n r k v).1 = s ∨ 65535 < (qnum B n r k v).2 then (6, q, q, 0) else (2, q, (qnum B n r k v).1, (qnum B n r k v).2)) σ (zX4_scanNumber_7 N m (Int32.ofNat (s - q)) (Int32.ofNat r) (Int64.ofNat V) σ) := by
  have hn := hS.1
  have fin : ∀ (k V v : Nat) (σ : fv_S), s ≤ k → k ≤ n → V ≤ 100000 → (V = v ∧ v ≤ 65535 ∨ 65535 < V ∧ 65535 < v) → qX0 q σ → fv_gi σ 1671 = Int32.ofNat (k - q) → qEx n (if k = s ∨ 65535 < v then (6, q, q, 0) else (2, q, k, v)) σ (if fv_gi σ 1671 = Int32.ofNat (s - q) then zX4_scanNumber_87 N (Int64.ofNat V) σ else if lg_cmp (Int64.ofNat V) 65535 ≤ 0 then zX4_scanNumber_93 N (Int64.ofNat V) 2 σ else zX4_scanNumber_87 N (Int64.ofNat V) σ) := by
    intro k V v σ h1 h2 hV hR g e
    have bad : qEx n (6, q, q, 0) σ (zX4_scanNumber_87 N (Int64.ofNat V) σ) :=
      ⟨_, rfl, qGx_si (qGx_si (qGx_r σ) 1669 6 (by omega)) 1672 _ (by omega), g.2.2, rfl, g.2.1, fun e => absurd rfl e, fun e => absurd e (show ¬ (6 : Nat) = 0 by omega), fun e => absurd e (show ¬ (6 : Nat) = 2 by omega)⟩
    rw [e]
    by_cases c : k = s
    · rw [if_pos (Or.inl c), if_pos (by rw [c])]; exact bad
    · rw [if_neg (show ¬ Int32.ofNat (k - q) = Int32.ofNat (s - q) from fun e => c (by have := (p_eqN (k - q) (s - q) (by omega) (by omega)).1 e; omega))]
      have lV : lg_cmp (Int64.ofNat V) 65535 ≤ 0 ↔ ¬ 65535 < V := by
        rw [l_le]; exact not_congr (l_lt 65535 V (by omega) (by omega))
      by_cases c2 : 65535 < v
      · rw [if_pos (Or.inr c2), if_neg (fun e => lV.1 e (by omega))]; exact bad
      · rw [if_neg (by omega), if_pos (lV.2 (by omega))]
        have eV : V = v := by omega
        subst eV
        refine ⟨_, rfl, qGx_si (qGx_si (qGx_r σ) 1669 2 (by omega)) 1672 _ (by omega), g.2.2, rfl, g.2.1, fun _ _ => e, fun e => absurd e (show ¬ (2 : Nat) = 0 by omega), fun _ => ?_⟩
        show Int64.toInt32 (Int64.ofNat V) = Int32.ofNat V
        rw [← l_i64 V (by omega), Int32.toInt32_toInt64]
  intro d
  induction d with
  | zero =>
    intro k V v m σ e h1 h2 hm hV hR h g e1
    obtain ⟨m, rfl⟩ : ∃ j, m = j + 1 := ⟨m - 1, by omega⟩
    have eq : qnum B n r k v = (k, v) := by unfold qnum; rw [e]; rfl
    rw [eq]
    show qEx _ _ _ (zX4_scanNumber_7_b _ _ _ _ _ _)
    unfold zX4_scanNumber_7_b
    rw [g.2.1, e1, ← Int32.ofNat_add, show q + (k - q) = k by omega, x_sg hS h k (by omega), fv_bi_ri, x_di hr hS, fv_bi_ri, hS.2.2 k (by omega), if_neg (show ¬ qwo 10 < r by rw [show qwo 10 = 99 from rfl]; omega), if_pos (show (-1 : Int32) < 0 by decide)]
    rw [e1]; rw [← e1]
    exact fin k V v σ h1 h2 hV hR g e1
  | succ d ih =>
    intro k V v m σ e h1 h2 hm hV hR h g e1
    obtain ⟨m, rfl⟩ : ∃ j, m = j + 1 := ⟨m - 1, by omega⟩
    have w99 := qwo_lt (B k)
    show qEx _ _ _ (zX4_scanNumber_7_b _ _ _ _ _ _)
    unfold zX4_scanNumber_7_b
    rw [g.2.1, e1, ← Int32.ofNat_add, show q + (k - q) = k by omega, x_sg hS h k (by omega), fv_bi_ri, x_di hr hS, fv_bi_ri]
    by_cases c : qwo (B k) < r
    · have eq : qnum B n r k v = qnum B n r (k + 1) (if 65535 < v then v else v * r + qwo (B k)) := by
        unfold qnum; rw [e, show n - (k + 1) = d by omega]
        show (if qwo (B k) < r then _ else _) = _
        rw [if_pos c]
      rw [if_pos c, if_neg (show ¬ Int32.ofNat (qwo (B k)) < 0 by rw [p_lt, p_ofn _ (by omega)]; show ¬ ((qwo (B k) : Nat) : Int) < 0; omega)]
      rw [g.2.1, e1, ← Int32.ofNat_add, show q + (k - q) = k by omega, x_sg hS h k (by omega), fv_bi_ri, x_di hr hS, fv_bi_ri, if_pos c]
      rw [l_i64 r (by omega), l_i64 _ (by omega), ← Int64.ofNat_mul, ← Int64.ofNat_add]
      have rV : r * V ≤ 16 * 100000 := Nat.mul_le_mul (by omega) hV
      have rV2 : 2 * V ≤ r * V := Nat.mul_le_mul (by omega) (Nat.le_refl _)
      have mn : zJ3_min 100000 (Int64.ofNat (r * V + qwo (B k))) σ = fv_rl (Int64.ofNat (min 100000 (r * V + qwo (B k)))) σ := by
        unfold zJ3_min
        by_cases c3 : r * V + qwo (B k) < 100000
        · rw [if_pos (show (0 : Int32) < lg_cmp 100000 (Int64.ofNat (r * V + qwo (B k))) from (l_gt _ _).2 ((l_lt (r * V + qwo (B k)) 100000 (by omega) (by omega)).2 c3)), Nat.min_eq_right (by omega)]
        · rw [if_neg (show ¬ (0 : Int32) < lg_cmp 100000 (Int64.ofNat (r * V + qwo (B k))) from fun e => c3 ((l_lt (r * V + qwo (B k)) 100000 (by omega) (by omega)).1 ((l_gt _ _).1 e))), Nat.min_eq_left (by omega)]; rfl
      rw [mn, fv_bl_rl, e1, p_sucN, show k - q + 1 = k + 1 - q by omega, eq]
      have f := qGx_si (qGx_r σ) 1671 (Int32.ofNat (k + 1 - q)) (by omega)
      refine qEx_t f (ih (k + 1) _ _ m _ (by omega) (by omega) (by omega) (by omega) (Nat.min_le_left _ _) ?_ (qX_f h f) g rfl)
      rcases hR with ⟨rfl, hv⟩ | ⟨hv1, hv2⟩
      · rw [if_neg (by omega), Nat.mul_comm]; omega
      · rw [if_pos hv2]; omega
    · have eq : qnum B n r k v = (k, v) := by
        unfold qnum; rw [e]
        show (if qwo (B k) < r then _ else _) = _
        rw [if_neg c]
      rw [eq, if_neg c, if_pos (show (-1 : Int32) < 0 by decide)]
      rw [e1]; rw [← e1]
      exact fin k V v σ h1 h2 hV hR g e1
