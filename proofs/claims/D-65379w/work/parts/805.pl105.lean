set_option maxRecDepth 100000
set_option maxHeartbeats 4000000
/-! The plain law: a line that is skipped, in the model. -/
/-- how a skipped line ends, in the model -/
def mSk (B : Nat → Nat) (n : Nat) (sec : Bool) (L : List (List Nat × Int32)) (h org : Nat) (p : Nat) (y : (Nat × Nat) ⊕ List (Bool × Bool)) (τ : fv_S) (out : Option fv_O) : Prop := match y with
  | .inl f => mFx f τ out
  | .inr I' => ∃ τ' r, out = fv_ri 1 τ' ∧ mFo τ τ' ∧ mMs τ τ' ∧ mZ B n sec L h I' org τ' ∧ fv_gi τ' 2 = Int32.ofNat r ∧ p ≤ r ∧ r ≤ n ∧ qeol B n p = qeol B n r
theorem mSk_t {B : Nat → Nat} {n : Nat} {sec : Bool} {L : List (List Nat × Int32)} {h org p p0 : Nat} {y : (Nat × Nat) ⊕ List (Bool × Bool)} {τ0 τ : fv_S} {out : Option fv_O} (f : mFo τ0 τ) (ms : mMs τ0 τ) (e : p0 ≤ p) (e2 : qeol B n p0 = qeol B n p) (H : mSk B n sec L h org p y τ out) : mSk B n sec L h org p0 y τ0 out := by
  cases y with
  | inl g => exact mFx_t f H
  | inr I' => obtain ⟨τ', r, h1, h2, h3, h4, h5, h6, h7, h8⟩ := H; exact ⟨τ', r, h1, mFo_t f h2, mMs_t ms h3, h4, h5, by omega, h7, e2.trans h8⟩
theorem mSk_b {B : Nat → Nat} {n : Nat} {sec : Bool} {L : List (List Nat × Int32)} {h org p : Nat} {y : (Nat × Nat) ⊕ List (Bool × Bool)} {τ : fv_S} {out : Option fv_O} (H : mSk B n sec L h org p y τ out) : mSk B n sec L h org p y τ (fv_bi out (fun r s => if r = 0 ∨ r = 1 then fv_ri r s else none) fv_no) := by
  cases y with
  | inl g => exact mFx_b H
  | inr I' => obtain ⟨τ', r, h1, h2⟩ := H; rw [h1, fv_bi_ri, if_pos (Or.inr rfl)]; exact ⟨τ', r, rfl, h2⟩
/-- a name's word -/
theorem m_any57 {B : Nat → Nat} {n N q : Nat} (hS : qS B n) (hq : q ≤ n) : ∀ (d k m : Nat) (τ : fv_S), n - k = d → q ≤ k → k ≤ n → d + 1 ≤ m → qM B n τ → fv_gi τ 2 = Int32.ofNat k → (∀ i, q ≤ i → i < k → qnp (B i) = true) → ∃ τ', zX8_anyName_57 N m (if k - q ≤ 8 then Int64.ofNat (qpk (qnm B q (k - q))) else 0) (Int32.ofNat (k - q)) τ = fv_rl (qwd (qnm B q (qnen B n k - q))) τ' ∧ (∀ j, j ≠ 2 → fv_gi τ' j = fv_gi τ j) ∧ τ'.2 = τ.2 ∧ fv_gi τ' 2 = Int32.ofNat (qnen B n k) := by
  have hn := hS.1
  have wl : ∀ k, qwd (qnm B q (k - q)) = if k - q ≤ 8 then Int64.ofNat (qpk (qnm B q (k - q))) else 0 := fun k => by unfold qwd; rw [qnm_len]
  have stop : ∀ (k m : Nat) (τ : fv_S), q ≤ k → k ≤ n → qM B n τ → fv_gi τ 2 = Int32.ofNat k → qnp (B k) = false → ∃ τ', zX8_anyName_57 N (m + 1) (if k - q ≤ 8 then Int64.ofNat (qpk (qnm B q (k - q))) else 0) (Int32.ofNat (k - q)) τ = fv_rl (qwd (qnm B q (qnen B n k - q))) τ' ∧ (∀ j, j ≠ 2 → fv_gi τ' j = fv_gi τ j) ∧ τ'.2 = τ.2 ∧ fv_gi τ' 2 = Int32.ofNat (qnen B n k) := by
    intro k m τ h1 h2 h g hb
    have s0 : qst (B k) = false ∧ qdg (B k) = false := by
      unfold qnp at hb
      cases ha : qst (B k) with
      | true => rw [ha] at hb; exact absurd hb (by simp)
      | false => rw [ha] at hb; exact ⟨rfl, hb⟩
    have en : qnen B n k = k := qrun_e hb
    show ∃ τ', zX8_anyName_57_b N _ _ _ _ = _ ∧ _
    unfold zX8_anyName_57_b
    rw [g, m_by hS h k (by omega), fv_bi_ri, m_st _ (hS.2.1 k), fv_bi_ri, s0.1, if_neg (show ¬ ¬ q01 false = 0 by decide), g, m_by hS h k (by omega), fv_bi_ri, m_dg _ (hS.2.1 k), fv_bi_ri, s0.2, if_pos (show q01 false = 0 by decide), en, wl]
    have l8 : Int32.ofNat (k - q) ≤ 8 ↔ k - q ≤ 8 := p_leN _ 8 (by omega) (by omega)
    by_cases c : k - q ≤ 8
    · rw [if_pos (l8.2 c)]; exact ⟨τ, rfl, fun _ _ => rfl, rfl, g⟩
    · rw [if_neg (fun x => c (l8.1 x)), if_neg c]; exact ⟨τ, rfl, fun _ _ => rfl, rfl, g⟩
  intro d
  induction d with
  | zero =>
    intro k m τ e h1 h2 hm h g hi
    obtain ⟨m, rfl⟩ : ∃ j, m = j + 1 := ⟨m - 1, by omega⟩
    exact stop k m τ h1 h2 h g (by rw [hS.2.2 k (by omega)]; decide)
  | succ d ih =>
    intro k m τ e h1 h2 hm h g hi
    obtain ⟨m, rfl⟩ : ∃ j, m = j + 1 := ⟨m - 1, by omega⟩
    cases hb : qnp (B k) with
    | false => exact stop k m τ h1 h2 h g hb
    | true =>
      have en : qnen B n k = qnen B n (k + 1) := qrun_s (show k < n by omega) hb
      have e87 : zX8_anyName_57_b N (zX8_anyName_57 N m) (if k - q ≤ 8 then Int64.ofNat (qpk (qnm B q (k - q))) else 0) (Int32.ofNat (k - q)) τ = zX8_anyName_87 N (zX8_anyName_57 N m) (if k - q ≤ 8 then Int64.ofNat (qpk (qnm B q (k - q))) else 0) (Int32.ofNat (k - q)) τ := by
        unfold zX8_anyName_57_b
        rw [g, m_by hS h k (by omega), fv_bi_ri, m_st _ (hS.2.1 k), fv_bi_ri]
        cases hs : qst (B k) with
        | true => rw [if_pos (show ¬ q01 true = 0 by decide)]
        | false =>
          have hdg : qdg (B k) = true := by unfold qnp at hb; rw [hs] at hb; exact hb
          rw [if_neg (show ¬ ¬ q01 false = 0 by decide), g, m_by hS h k (by omega), fv_bi_ri, m_dg _ (hS.2.1 k), fv_bi_ri, hdg, if_neg (show ¬ q01 true = 0 by decide)]
      show ∃ τ', zX8_anyName_57_b N _ _ _ _ = _ ∧ _
      rw [e87, en]
      have h' : qM B n (fv_si τ 2 (Int32.ofNat (k + 1))) := ⟨h.1, h.2⟩
      obtain ⟨τ', x, f1, f2, g2⟩ := ih (k + 1) m (fv_si τ 2 (Int32.ofNat (k + 1))) (by omega) (by omega) (by omega) (by omega) h' rfl (fun i a b => by
        by_cases c : i = k
        · rw [c]; exact hb
        · exact hi i a (by omega))
      refine ⟨τ', ?_, fun j hj => (f1 j hj).trans (if_neg hj), f2, g2⟩
      rw [← x]
      have l8 : (8 : Int32) ≤ Int32.ofNat (k - q) ↔ 8 ≤ k - q := p_leN 8 _ (by omega) (by omega)
      have sc : Int32.ofNat (k - q) + 1 = Int32.ofNat (k + 1 - q) := by rw [p_sucN, show k - q + 1 = k + 1 - q by omega]
      unfold zX8_anyName_87 zX8_anyName_115
      by_cases c : 8 ≤ k - q
      · rw [if_pos (l8.2 c), g, sc, p_sucN, if_neg (show ¬ k + 1 - q ≤ 8 by omega)]
      · have cap := qcap_lt (B k) (hS.2.1 k)
        have lt : qpk (qnm B q (k - q)) < 2 ^ 56 := by
          have t := qpk_lt B hS.2.1 q (k - q)
          have : (256 : Nat) ^ (k - q) ≤ 256 ^ 7 := Nat.pow_le_pow_right (by omega) (by omega)
          have : (256 : Nat) ^ 7 = 2 ^ 56 := by decide
          omega
        rw [if_neg (fun x => c (l8.1 x)), g, m_by hS h k (by omega), fv_bi_ri, m_cap _ (hS.2.1 k), fv_bi_ri, g, sc, p_sucN, if_pos (show k - q ≤ 8 by omega), if_pos (show k + 1 - q ≤ 8 by omega), p_sh8 _ _ lt cap]
        have : qpk (qnm B q (k + 1 - q)) = qpk (qnm B q (k - q)) * 256 + qcap (B k) := by
          rw [show k + 1 - q = (k - q) + 1 by omega, qnm_s, qpk_s, show q + (k - q) = k by omega]
        rw [this]
/-- a name behind blanks -/
theorem m_any {B : Nat → Nat} {n N : Nat} (hS : qS B n) (hN : 7000 ≤ N) : ∀ (d p m : Nat) (τ : fv_S), n - p = d → p ≤ n → d + 1 ≤ m → qM B n τ → fv_gi τ 2 = Int32.ofNat p → ∃ τ', zX8_anyName_0 N m τ = fv_rl (if qst (B (qnbl B n p)) = true then qwd (qnm B (qnbl B n p) (qnen B n (qnbl B n p) - qnbl B n p)) else 0) τ' ∧ (∀ j, j ≠ 2 → j ≠ 4 → fv_gi τ' j = fv_gi τ j) ∧ τ'.2 = τ.2 ∧ fv_gi τ' 4 = Int32.ofNat (qnbl B n p) ∧ fv_gi τ' 2 = Int32.ofNat (if qst (B (qnbl B n p)) = true then qnen B n (qnbl B n p) else qnbl B n p) := by
  have hn := hS.1
  have stop : ∀ (p m : Nat) (τ : fv_S), p ≤ n → qM B n τ → fv_gi τ 2 = Int32.ofNat p → qbl (B p) = false → ∃ τ', zX8_anyName_0 N (m + 1) τ = fv_rl (if qst (B (qnbl B n p)) = true then qwd (qnm B (qnbl B n p) (qnen B n (qnbl B n p) - qnbl B n p)) else 0) τ' ∧ (∀ j, j ≠ 2 → j ≠ 4 → fv_gi τ' j = fv_gi τ j) ∧ τ'.2 = τ.2 ∧ fv_gi τ' 4 = Int32.ofNat (qnbl B n p) ∧ fv_gi τ' 2 = Int32.ofNat (if qst (B (qnbl B n p)) = true then qnen B n (qnbl B n p) else qnbl B n p) := by
    intro p m τ hp h g hb
    have en : qnbl B n p = p := qrun_e hb
    rw [en]
    show ∃ τ', zX8_anyName_0_b N _ _ = _ ∧ _
    unfold zX8_anyName_0_b
    have h1 : qM B n (fv_si τ 4 (Int32.ofNat p)) := ⟨h.1, h.2⟩
    have g1 : fv_gi (fv_si τ 4 (Int32.ofNat p)) 2 = Int32.ofNat p := g
    rw [g, m_by hS h p (by omega), fv_bi_ri, m_bl _ (hS.2.1 p), fv_bi_ri, hb, if_pos (show q01 false = 0 by decide), g, m_by hS h1 p (by omega), fv_bi_ri, m_st _ (hS.2.1 p), fv_bi_ri]
    cases hs : qst (B p) with
    | false =>
      rw [if_neg (show ¬ ¬ q01 false = 0 by decide), if_neg (by decide), if_neg (by decide)]
      exact ⟨_, rfl, fun j a b => if_neg b, rfl, rfl, g⟩
    | true =>
      rw [if_pos (show ¬ q01 true = 0 by decide), if_pos rfl, if_pos rfl]
      obtain ⟨τ', x, f1, f2, g2⟩ := m_any57 (N := N) hS hp (n - p) p N (fv_si τ 4 (Int32.ofNat p)) rfl (Nat.le_refl _) hp (by omega) h1 g1 (fun i a b => absurd a (by omega))
      rw [Nat.sub_self, if_pos (show (0 : Nat) ≤ 8 by omega)] at x
      exact ⟨τ', x, fun j a b => (f1 j a).trans (if_neg b), f2, f1 4 (by omega), g2⟩
  intro d
  induction d with
  | zero =>
    intro p m τ e hp hm h g
    obtain ⟨m, rfl⟩ : ∃ j, m = j + 1 := ⟨m - 1, by omega⟩
    exact stop p m τ hp h g (by rw [hS.2.2 p (by omega)]; decide)
  | succ d ih =>
    intro p m τ e hp hm h g
    obtain ⟨m, rfl⟩ : ∃ j, m = j + 1 := ⟨m - 1, by omega⟩
    cases hb : qbl (B p) with
    | false => exact stop p m τ hp h g hb
    | true =>
      have en : qnbl B n p = qnbl B n (p + 1) := qrun_s (show p < n by omega) hb
      rw [en]
      obtain ⟨τ', x, f1, f2, g1, g2⟩ := ih (p + 1) m (fv_si τ 2 (Int32.ofNat (p + 1))) (by omega) (by omega) (by omega) ⟨h.1, h.2⟩ rfl
      refine ⟨τ', ?_, fun j a b => (f1 j a b).trans (if_neg a), f2, g1, g2⟩
      show zX8_anyName_0_b N _ _ = _
      unfold zX8_anyName_0_b
      rw [g, m_by hS h p (by omega), fv_bi_ri, m_bl _ (hS.2.1 p), fv_bi_ri, hb, if_neg (show ¬ q01 true = 0 by decide), g, p_sucN]
      exact x
theorem mZ_24 {B : Nat → Nat} {n : Nat} {sec : Bool} {L : List (List Nat × Int32)} {h : Nat} {I : List (Bool × Bool)} {org : Nat} {τ τ' : fv_S} (z : mZ B n sec L h I org τ) (g : ∀ j, j ≠ 2 → j ≠ 4 → fv_gi τ' j = fv_gi τ j) (e : τ'.2 = τ.2) : mZ B n sec L h I org τ' ∧ mFo τ τ' ∧ mMs τ τ' := by
  have gw : ∀ a, fv_gw τ' a = fv_gw τ a := fun a => by show τ'.2.2.1 a = _; rw [e]
  obtain ⟨z1, z2, z3, z4, z5, z6, z7, z8⟩ := z
  refine ⟨⟨⟨(g 1 (by omega) (by omega)).trans z1.1, by rw [gw]; exact z1.2⟩, ⟨(g 13 (by omega) (by omega)).trans z2.1, z2.2.1, by rw [gw, gw, gw]; exact z2.2.2⟩, (g _ (by omega) (by omega)).trans z3, (g _ (by omega) (by omega)).trans z4, (g _ (by omega) (by omega)).trans z5, (g _ (by omega) (by omega)).trans z6, (g _ (by omega) (by omega)).trans z7, mIf_c I τ _ (fun i _ => by rw [gw, gw]; exact ⟨rfl, rfl⟩) z8⟩, ⟨fun k hk => g k (by omega) (by omega), fun k _ => by show τ'.2.1 k = _; rw [e], fun a _ => gw a, by show τ'.2.2.2 = _; rw [e]⟩, gw 14, g _ (by omega) (by omega), g _ (by omega) (by omega)⟩
/-- the word of a skipped line -/
theorem m_77 {B : Nat → Nat} {n N r q : Nat} {sec : Bool} {L : List (List Nat × Int32)} {h : Nat} {I : List (Bool × Bool)} {org : Nat} {τ : fv_S} (z : mZ B n sec L h I org τ) (hI : I.length ≤ 8) (hr : r ≤ n) (g : fv_gi τ 2 = Int32.ofNat r) (w : Nat) (W : Int64) (h72 : lg_cmp W 18758 = 0 ↔ w = 72) (h73 : lg_cmp W 1162629957 = 0 ↔ w = 73) (h74 : lg_cmp W 297665841478 = 0 ↔ w = 74) : mSk B n sec L h org r (qsky I (w, q)) τ (zX8_skipLine_77 N W (Int32.ofNat q) τ) := by
  unfold zX8_skipLine_77 qsky
  by_cases c72 : w = 72
  · rw [if_neg (show ¬ ¬ lg_cmp W 18758 = 0 from not_not_intro (h72.2 c72)), if_pos (show ((w, q) : Nat × Nat).1 = 72 from c72), z.2.2.2.2.2.2.1]
    by_cases c8 : I.length = 8
    · rw [if_neg (show ¬ ¬ Int32.ofNat I.length = 8 from not_not_intro (by rw [c8]; rfl)), if_pos c8]
      exact mFx_w z.2.2.2.2.2.1 (7, q) ⟨by show 1 ≤ 7; omega, by show 7 ≤ 9; omega⟩
    · rw [if_pos (show ¬ Int32.ofNat I.length = 8 from fun x => c8 ((p_eqN _ 8 (by omega) (by omega)).1 x)), if_neg c8]
      obtain ⟨τ', x, z', ms, fo, g2⟩ := m_ifb z (by omega) false
      rw [z.2.2.2.2.2.2.1] at x
      rw [show (if fv_in (Int32.ofNat I.length) 9 then if fv_in (Int32.ofNat I.length) 9 then fv_ri 1 (fv_si (fv_sa (fv_sa τ 15 (Int32.ofNat I.length) (vp_nar .boolean 0)) 16 (Int32.ofNat I.length) (vp_nar .boolean 0)) 45 (Int32.ofNat I.length + 1)) else none else none) = fv_ri 1 τ' from x]
      exact ⟨τ', r, rfl, fo, ms, z', g2.trans g, Nat.le_refl _, hr, rfl⟩
  rw [if_pos (show ¬ lg_cmp W 18758 = 0 from fun x => c72 (h72.1 x)), if_neg (show ¬ ((w, q) : Nat × Nat).1 = 72 from c72)]
  by_cases c73 : w = 73 ∨ w = 74
  · rw [if_pos (show ((w, q) : Nat × Nat).1 = 73 ∨ ((w, q) : Nat × Nat).1 = 74 from c73)]
    have st : (if lg_cmp W 1162629957 = 0 then zX8_skipLine_152 N W (Int32.ofNat q) τ else if lg_cmp W 297665841478 = 0 then zX8_skipLine_152 N W (Int32.ofNat q) τ else fv_ri 1 τ) = zX8_skipLine_152 N W (Int32.ofNat q) τ := by
      rcases c73 with d | d
      · rw [if_pos (h73.2 d)]
      · rw [if_neg (fun x => absurd (h73.1 x) (by omega)), if_pos (h74.2 d)]
    rw [st]
    unfold zX8_skipLine_152
    refine mSk_b ?_
    obtain ⟨A, C⟩ := m_t28 (q := q) z hI (decide (w = 73)) 1 W (h73.trans decide_eq_true_iff.symm)
    show mSk B n sec L h org r (qtu (decide (w = 73)) I q) τ _
    cases hu : qtu (decide (w = 73)) I q with
    | inl f => exact A f hu
    | inr I' =>
      rw [C I' hu]
      unfold zX8_turn_57
      rw [if_pos (show ¬ (1 : Int32) = 0 by decide)]
      obtain ⟨τ', x, z', ms, fo, g2⟩ := m_t75 (q := q) z hI (decide (w = 73)) I' hu
      exact ⟨τ', r, x, fo, ms, z', g2.trans g, Nat.le_refl _, hr, rfl⟩
  · rw [if_neg (show ¬ (((w, q) : Nat × Nat).1 = 73 ∨ ((w, q) : Nat × Nat).1 = 74) from c73), if_neg (fun x => c73 (Or.inl (h73.1 x))), if_neg (fun x => c73 (Or.inr (h74.1 x)))]
    exact ⟨τ, r, rfl, mFo_r τ, ⟨rfl, rfl, rfl⟩, z, g, Nat.le_refl _, hr, rfl⟩
theorem m_skip {B : Nat → Nat} {n N p : Nat} (hS : qS B n) (hN : 7000 ≤ N) {sec : Bool} {L : List (List Nat × Int32)} {h : Nat} {I : List (Bool × Bool)} {org : Nat} {τ : fv_S} (z : mZ B n sec L h I org τ) (hI : I.length ≤ 8) (hp : p ≤ n) (g : fv_gi τ 2 = Int32.ofNat p) : mSk B n sec L h org p (qsky I (qskw B n p)) τ (zX8_skipLine N τ) := by
  have hn := hS.1
  have word : ∀ (q r : Nat) (τ1 : fv_S), q ≤ n → qst (B q) = true → r ≤ n → mZ B n sec L h I org τ1 → fv_gi τ1 2 = Int32.ofNat r → mSk B n sec L h org r (qsky I (qri (qnm B q (qnen B n q - q)), q)) τ1 (zX8_skipLine_77 N (qwd (qnm B q (qnen B n q - q))) (Int32.ofNat q) τ1) := by
    intro q r τ1 hq hs hr z1 g1
    obtain ⟨v1, v2, v3, v4⟩ := qnen_b hS hq
    have hz : qnz (qnm B q (qnen B n q - q)) := qnm_nz hS.2.1 _ _ (fun i a b => (v3 i a (by omega)).2)
    exact m_77 z1 hI hr g1 _ _ (m_wq hz (by omega) (by decide +kernel)) (m_wq hz (by omega) (by decide +kernel)) (m_wq hz (by omega) (by decide +kernel))
  have none9 : ∀ (q r : Nat) (τ1 : fv_S), r ≤ n → mZ B n sec L h I org τ1 → fv_gi τ1 2 = Int32.ofNat r → mSk B n sec L h org r (qsky I (99, q)) τ1 (zX8_skipLine_77 N 0 (Int32.ofNat q) τ1) := by
    intro q r τ1 hr z1 g1
    have l0 : ∀ c : Int64, c ≠ 0 → ∀ w : Nat, w ≠ 99 → (lg_cmp 0 c = 0 ↔ 99 = w) := fun c hc w hw => by rw [lg_eq]; exact ⟨fun e => absurd e.symm hc, fun e => absurd e.symm hw⟩
    exact m_77 z1 hI hr g1 99 0 (l0 _ (by decide) 72 (by omega)) (l0 _ (by decide) 73 (by omega)) (l0 _ (by decide) 74 (by omega))
  obtain ⟨q1, q2, q3⟩ := qnbl_b hS hp
  have E1 : qeol B n p = qeol B n (qnbl B n p) := qeol_s _ p _ rfl q1 q2 q3
  unfold zX8_skipLine qskw zX8_anyName
  obtain ⟨τ1, x1, f1, f1', g4, g2⟩ := m_any (N := N) hS hN (n - p) p N τ rfl hp (by omega) z.1 g
  obtain ⟨z1, fo1, ms1⟩ := mZ_24 z f1 f1'
  rw [x1, fv_bl_rl, g4, g2]
  generalize qnbl B n p = p1 at *
  refine mSk_t fo1 ms1 q1 E1 ?_
  cases hs : qst (B p1) with
  | false =>
    rw [hs, if_neg (by decide)] at g2
    simp only [Bool.false_eq_true, if_false]
    rw [if_neg (show ¬ ¬ True from not_not_intro trivial)]
    show mSk B n sec L h org p1 (.inr I) τ1 _
    exact ⟨τ1, p1, rfl, mFo_r τ1, ⟨rfl, rfl, rfl⟩, z1, g2, Nat.le_refl _, q2, rfl⟩
  | true =>
    rw [hs, if_pos rfl] at g2
    obtain ⟨v1, v2, v3, v4⟩ := qnen_b hS q2
    have v4 := v4 hs
    rw [if_pos rfl, if_pos rfl, if_pos rfl, if_pos (show ¬ Int32.ofNat (qnen B n p1) = Int32.ofNat p1 from fun x => by have := (p_eqN _ _ (by omega) (by omega)).1 x; omega)]
    have E2 : qeol B n p1 = qeol B n (qnen B n p1) := qeol_s _ p1 _ rfl (by omega) v2 (fun i a b => (v3 i a b).1)
    refine mSk_t (mFo_r τ1) ⟨rfl, rfl, rfl⟩ v1 E2 ?_
    -- blanks behind the name
    have lp : ∀ (d k m : Nat), n - k = d → qnen B n p1 ≤ k → k ≤ n → d + 1 ≤ m → qnbl B n k = qnbl B n (qnen B n p1) → mSk B n sec L h org (qnen B n p1) (qsky I (if B (qnbl B n (qnen B n p1)) = 58 then (if qst (B (qnbl B n (qnbl B n (qnen B n p1) + 1))) = true then (qri (qnm B (qnbl B n (qnbl B n (qnen B n p1) + 1)) (qnen B n (qnbl B n (qnbl B n (qnen B n p1) + 1)) - qnbl B n (qnbl B n (qnen B n p1) + 1))), qnbl B n (qnbl B n (qnen B n p1) + 1)) else (99, qnbl B n (qnbl B n (qnen B n p1) + 1))) else (qri (qnm B p1 (qnen B n p1 - p1)), p1))) τ1 (zX8_skipLine_29 N m (qwd (qnm B p1 (qnen B n p1 - p1))) (Int32.ofNat p1) (Int32.ofNat k) τ1) := by
      have done : ∀ (k m : Nat), qnen B n p1 ≤ k → k ≤ n → qbl (B k) = false → qnbl B n k = qnbl B n (qnen B n p1) → mSk B n sec L h org (qnen B n p1) (qsky I (if B (qnbl B n (qnen B n p1)) = 58 then (if qst (B (qnbl B n (qnbl B n (qnen B n p1) + 1))) = true then (qri (qnm B (qnbl B n (qnbl B n (qnen B n p1) + 1)) (qnen B n (qnbl B n (qnbl B n (qnen B n p1) + 1)) - qnbl B n (qnbl B n (qnen B n p1) + 1))), qnbl B n (qnbl B n (qnen B n p1) + 1)) else (99, qnbl B n (qnbl B n (qnen B n p1) + 1))) else (qri (qnm B p1 (qnen B n p1 - p1)), p1))) τ1 (zX8_skipLine_29 N (m + 1) (qwd (qnm B p1 (qnen B n p1 - p1))) (Int32.ofNat p1) (Int32.ofNat k) τ1) := by
        intro k m h1 h2 hb he
        have ek : qnbl B n k = k := qrun_e hb
        rw [← he, ek]
        show mSk B n sec L h org (qnen B n p1) _ τ1 (zX8_skipLine_29_b N _ _ _ _ τ1)
        unfold zX8_skipLine_29_b
        rw [m_by hS z1.1 k (by omega), fv_bi_ri, m_bl _ (hS.2.1 k), fv_bi_ri, hb, if_pos (show q01 false = 0 by decide), m_by hS z1.1 k (by omega), fv_bi_ri]
        have e58 : Int32.ofNat (B k) = 58 ↔ B k = 58 := p_eqN _ 58 (by have := hS.2.1 k; omega) (by omega)
        by_cases c58 : B k = 58
        rotate_left
        · rw [if_pos (show ¬ Int32.ofNat (B k) = 58 from fun x => c58 (e58.1 x)), if_neg c58]
          exact word p1 _ τ1 q2 hs v2 z1 g2
        · have kn : k < n := by
            by_cases c : k < n
            · exact c
            · have := hS.2.2 k (by omega); omega
          rw [if_neg (show ¬ ¬ Int32.ofNat (B k) = 58 from not_not_intro (e58.2 c58)), if_pos c58, p_sucN]
          unfold zX8_anyName
          obtain ⟨τ2, x2, f2, f2', k4, k2⟩ := m_any (N := N) hS hN (n - (k + 1)) (k + 1) N (fv_si τ1 2 (Int32.ofNat (k + 1))) rfl (by omega) (by omega) ⟨z1.1.1, z1.1.2⟩ rfl
          obtain ⟨z2, fo2, ms2⟩ := mZ_24 z1 (τ' := τ2) (fun j a b => (f2 j a b).trans (if_neg a)) f2'
          obtain ⟨w1, w2, w3⟩ := qnbl_b hS (show k + 1 ≤ n by omega)
          rw [x2, fv_bl_rl, k4]
          have Ek : qeol B n (qnen B n p1) = qeol B n (qnbl B n (k + 1)) := by
            have a1 : qeol B n (qnen B n p1) = qeol B n k := by
              have hb := qnbl_b hS v2
              rw [← he, ek] at hb
              exact qeol_s _ _ k rfl h1 h2 hb.2.2
            have a2 : qeol B n k = qeol B n (k + 1) := qeol_s _ k (k + 1) rfl (by omega) (by omega) (fun i a b => by rw [show i = k by omega]; omega)
            exact (a1.trans a2).trans (qeol_s _ (k + 1) _ rfl w1 w2 w3)
          generalize qnbl B n (k + 1) = p3 at *
          cases hs3 : qst (B p3) with
          | false =>
            rw [hs3, if_neg (by decide)] at k2
            rw [if_neg (by decide), if_neg (by decide)]
            exact mSk_t fo2 ms2 (by omega) Ek (none9 p3 p3 τ2 w2 z2 k2)
          | true =>
            rw [hs3, if_pos rfl] at k2
            obtain ⟨y1, y2, y3, y4⟩ := qnen_b hS w2
            rw [if_pos rfl, if_pos rfl]
            exact mSk_t fo2 ms2 (by omega) (Ek.trans (qeol_s _ p3 _ rfl y1 y2 (fun i a b => (y3 i a b).1))) (word p3 _ τ2 w2 hs3 y2 z2 k2)
      intro d
      induction d with
      | zero =>
        intro k m e h1 h2 hm he
        obtain ⟨m, rfl⟩ : ∃ j, m = j + 1 := ⟨m - 1, by omega⟩
        exact done k m h1 h2 (by rw [hS.2.2 k (by omega)]; decide) he
      | succ d ih =>
        intro k m e h1 h2 hm he
        obtain ⟨m, rfl⟩ : ∃ j, m = j + 1 := ⟨m - 1, by omega⟩
        cases hb : qbl (B k) with
        | false => exact done k m h1 h2 hb he
        | true =>
          have en : qnbl B n k = qnbl B n (k + 1) := qrun_s (show k < n by omega) hb
          show mSk B n sec L h org (qnen B n p1) _ τ1 (zX8_skipLine_29_b N (zX8_skipLine_29 N m) _ _ _ τ1)
          unfold zX8_skipLine_29_b
          rw [m_by hS z1.1 k (by omega), fv_bi_ri, m_bl _ (hS.2.1 k), fv_bi_ri, hb, if_neg (show ¬ q01 true = 0 by decide), p_sucN]
          exact ih (k + 1) m (by omega) (by omega) (by omega) (by omega) (en.symm.trans he)
    exact lp (n - qnen B n p1) (qnen B n p1) N rfl (Nat.le_refl _) v2 (by omega) rfl
