set_option maxRecDepth 100000
set_option maxHeartbeats 4000000
/-! The plain law: what the model asks of its tokens. -/
theorem m_nx {B : Nat → Nat} {n p : Nat} (hS : qS B n) {N : Nat} (hN : 7000 ≤ N) (hp : p ≤ 6050) {τ : fv_S} (h : qM B n τ) (g : fv_gi τ 2 = Int32.ofNat p) : qE B (qT B n p) τ (zX8_next N τ) := by
  have hn := hS.1
  unfold zX8_next
  exact m_next hS N hN (n - p) p N τ rfl hp (by omega) h g
theorem qmk_e (k : Nat) : (qmk k = 0 ↔ k = 6) ∧ (qmk k = 1 ↔ k = 0) ∧ (qmk k = 2 ↔ k = 1) ∧ (qmk k = 3 ↔ k = 2) ∧ (qmk k = 4 ↔ k = 3) ∧ (qmk k = 5 ↔ k = 4 ∨ k = 5 ∨ 6 < k) ∧ qmk k ≤ 5 := by
  unfold qmk
  repeat' split
  all_goals omega
theorem m_k {B : Nat → Nat} {t : qTok} {τ : fv_S} (k : qN B t τ) (j : Nat) (hj : j ≤ 5) : fv_gi τ 3 = Int32.ofNat j ↔ qmk t.1 = j := by
  rw [k.2.1]; exact p_eqN _ _ (by have := (qmk_e t.1).2.2.2.2.2.2; omega) (by omega)
theorem qmv_sg {k c : Nat} (hc : qsg c = true) (hk : k = 4 ∨ k = 5 ∨ 6 < k) : qmv k = c ↔ k = c := by
  have := qsg_lt hc
  unfold qmv
  repeat' split
  all_goals omega
theorem qmv_lt {n p : Nat} {t : qTok} (hb : qTb n p t) : qmv t.1 < 302 := by
  have : t.1 < 256 := by
    rcases hb.2.2.2.2.1 with h | h
    · omega
    · have := qsg_lt h; omega
  unfold qmv
  repeat' split
  all_goals omega
theorem m_sgn {B : Nat → Nat} {n p : Nat} {t : qTok} (hb : qTb n p t) {τ : fv_S} (k : qN B t τ) (c : Nat) (hc : qsg c = true) : zX8_isSign (Int32.ofNat c) τ = fv_ri (q01 (t.1 == c)) τ := by
  have hl := qsg_lt hc
  have e5 := m_k k 5 (by omega)
  have q5 := (qmk_e t.1).2.2.2.2.2.1
  unfold zX8_isSign
  by_cases c5 : t.1 = 4 ∨ t.1 = 5 ∨ 6 < t.1
  · rw [if_neg (show ¬ ¬ fv_gi τ 3 = 5 from not_not_intro (e5.2 (q5.2 c5))), k.2.2.2.2.1 c5]
    have hv := qmv_lt hb
    have e := (p_eqN (qmv t.1) c (by omega) (by omega)).trans (qmv_sg hc c5)
    by_cases c1 : t.1 = c
    · rw [if_neg (not_not_intro (e.2 c1)), show (t.1 == c) = true by simp [c1]]; rfl
    · rw [if_pos (fun h => c1 (e.1 h)), show (t.1 == c) = false by simp [c1]]; rfl
  · rw [if_pos (show ¬ fv_gi τ 3 = 5 from fun h => c5 (q5.1 (e5.1 h))), show (t.1 == c) = false by simp; omega]; rfl
theorem m_ends {B : Nat → Nat} {n p : Nat} {t : qTok} (hb : qTb n p t) {τ : fv_S} (k : qN B t τ) : zX8_endsOperand τ = fv_ri (q01 (t.1 == 0 || t.1 == 44)) τ := by
  unfold zX8_endsOperand
  have e1 := (m_k k 1 (by omega)).trans (qmk_e t.1).2.1
  by_cases c0 : t.1 = 0
  · rw [if_pos (show fv_gi τ 3 = 1 from e1.2 c0), c0]; rfl
  · rw [if_neg (show ¬ fv_gi τ 3 = 1 from fun e => c0 (e1.1 e)), show zX8_isSign 44 τ = _ from m_sgn hb k 44 rfl, fv_bi_ri, show (t.1 == 0) = false by simp [c0]]
    cases (t.1 == 44) with
    | true => rw [if_neg (show ¬ q01 true = 0 by decide)]; rfl
    | false => rw [if_pos (show q01 false = 0 by decide)]; rfl
theorem m_wrong {τ : fv_S} (h : fv_gi τ 8 = 0) (a b : Int32) : zX8_wrong a b τ = fv_ri 0 (fv_si (fv_si τ 8 a) 9 b) := by
  unfold zX8_wrong; rw [h, if_neg (not_not_intro rfl)]
theorem m_refuse {B : Nat → Nat} {t : qTok} {τ : fv_S} (h : fv_gi τ 8 = 0) (k : qN B t τ) : zX8_refuse τ = fv_ri 0 (fv_si (fv_si τ 8 (Int32.ofNat (qwr t))) 9 (Int32.ofNat t.2.1)) := by
  unfold zX8_refuse zX8_refuse_13 qwr
  have e0 := (m_k k 0 (by omega)).trans (qmk_e t.1).1
  rw [m_wrong h, m_wrong h, fv_bi_ri, fv_bi_ri, if_pos (Or.inl rfl), k.2.2.1]
  by_cases c : t.1 = 6
  · rw [if_neg (show ¬ ¬ fv_gi τ 3 = 0 from not_not_intro (e0.2 c)), if_pos c]; rfl
  · rw [if_pos (show ¬ fv_gi τ 3 = 0 from fun e => c (e0.1 e)), if_neg c]; rfl
/-- the model goes to the next token -/
theorem m_go {B : Nat → Nat} {n p : Nat} (hS : qS B n) {N : Nat} (hN : 7000 ≤ N) (hp : p ≤ n) {τ : fv_S} (h : qM B n τ) (k : qMt B (qT B n p) τ) : ∃ τ', zX8_next N τ = fv_rv τ' ∧ qFt τ τ' ∧ qMt B (qT B n (qT B n p).2.2.1) τ' := by
  have hn := hS.1
  exact m_nx hS hN (by have := (qT_b hS p hp).2.2.1; omega) h k.1.1
theorem m_goTo {B : Nat → Nat} {n p : Nat} (hS : qS B n) {N : Nat} (hN : 7000 ≤ N) (hp : p ≤ n) {τ : fv_S} (h : qM B n τ) : ∃ τ', zX8_goTo N (Int32.ofNat p) τ = fv_rv τ' ∧ qFt τ τ' ∧ qMt B (qT B n p) τ' := by
  have hn := hS.1
  unfold zX8_goTo
  have f := qFt_si (qFt_r τ) 2 (Int32.ofNat p) (by omega)
  obtain ⟨τ', x, g, k⟩ := m_nx hS hN (by omega) (qM_f h f) (show fv_gi (fv_si τ 2 (Int32.ofNat p)) 2 = Int32.ofNat p from rfl)
  rw [x, fv_bv_rv]
  exact ⟨τ', rfl, qFt_t f g, k⟩
theorem m_pl12 {B : Nat → Nat} {n : Nat} (hS : qS B n) {N : Nat} (hN : 7000 ≤ N) (x : Int32) : ∀ (d f p o m : Nat) (τ : fv_S), n - p = d → p ≤ n → (1 ≤ o ∨ (qT B n p).1 = 40) → o + d ≤ 6001 → d + 2 ≤ m → d + 1 ≤ f → qM B n τ → qMt B (qT B n p) τ → ∃ τ' y, zX8_isPlace_12 N m x (Int32.ofNat o) 0 1 τ = zX8_isPlace_12 N 1 x y (q01 (qWh B n f o p)) 0 τ' ∧ qFt τ τ' := by
  have hn := hS.1
  have fin : ∀ (m : Nat) (y r : Int32) (s : fv_S), zX8_isPlace_12 N (m + 1) x y r 0 s = zX8_isPlace_12 N 1 x y r 0 s := by
    intro m y r s
    show zX8_isPlace_12_b _ _ _ _ _ _ _ = zX8_isPlace_12_b _ _ _ _ _ _ _
    unfold zX8_isPlace_12_b
    rw [if_pos rfl, if_pos rfl]
  intro d
  induction d using Nat.strongRecOn with
  | _ d ih =>
    intro f p o m τ e hp ho hod hm hf h k
    obtain ⟨m, rfl⟩ : ∃ j, m = j + 1 := ⟨m - 1, by omega⟩
    obtain ⟨m, rfl⟩ : ∃ j, m = j + 1 := ⟨m - 1, by omega⟩
    obtain ⟨f, rfl⟩ : ∃ j, f = j + 1 := ⟨f - 1, by omega⟩
    have hb := qT_b hS p hp
    have e1 := (m_k k.1 1 (by omega)).trans (qmk_e (qT B n p).1).2.1
    have e0 := (m_k k.1 0 (by omega)).trans (qmk_e (qT B n p).1).1
    obtain ⟨τ1, x1, f1, k1⟩ := m_go hS hN hp h k
    have h1 := qM_f h f1
    have again : ∀ (j : Nat) (s0 s1 : Int32), ¬ ((qT B n p).1 = 0 ∨ (qT B n p).1 = 6) → s0 + s1 = Int32.ofNat j → 1 ≤ j → j ≤ o + 1 → ∃ τ' y, zX8_isPlace_66 N (zX8_isPlace_12 N (m + 1)) x 0 1 s0 s1 τ = zX8_isPlace_12 N 1 x y (q01 (qWh B n f j (qT B n p).2.2.1)) 0 τ' ∧ qFt τ τ' := by
      intro j s0 s1 c es hj hj2
      have := hb.2.2.2.1 (fun e => c (Or.inl e)) (fun e => c (Or.inr e))
      have hb1 := hb.1
      have hb3 := hb.2.2.1
      unfold zX8_isPlace_66
      rw [x1, fv_bv_rv, es, if_pos (show ¬ Int32.ofNat j = 0 from fun e => by have := (p_eqN j 0 (by omega) (by omega)).1 e; omega)]
      obtain ⟨τ', y, z, g⟩ := ih (n - (qT B n p).2.2.1) (by omega) f (qT B n p).2.2.1 j (m + 1) τ1 rfl hb3 (Or.inl hj) (by omega) (by omega) (by omega) h1 k1
      exact ⟨τ', y, z, qFt_t f1 g⟩
    show ∃ τ' y, zX8_isPlace_12_b _ _ _ _ _ _ _ = zX8_isPlace_12 N 1 x y (q01 (if (qT B n p).1 = 0 ∨ (qT B n p).1 = 6 then false else if (qT B n p).1 = 41 ∧ o = 1 then ((qT B n (qT B n p).2.2.1).1 == 0 || (qT B n (qT B n p).2.2.1).1 == 44) else qWh B n f (if (qT B n p).1 = 40 then o + 1 else if (qT B n p).1 = 41 then o - 1 else o) (qT B n p).2.2.1)) 0 τ' ∧ _
    unfold zX8_isPlace_12_b
    rw [if_neg (show ¬ (1 : Int32) = 0 by decide)]
    by_cases c0 : (qT B n p).1 = 0
    · rw [if_pos (show fv_gi τ 3 = 1 from e1.2 c0), if_pos (Or.inl c0), fin]
      exact ⟨τ, _, rfl, qFt_r τ⟩
    rw [if_neg (show ¬ fv_gi τ 3 = 1 from fun e => c0 (e1.1 e))]
    by_cases c6 : (qT B n p).1 = 6
    · rw [if_neg (show ¬ ¬ fv_gi τ 3 = 0 from not_not_intro (e0.2 c6)), if_pos (Or.inr c6), fin]
      exact ⟨τ, _, rfl, qFt_r τ⟩
    have c06 : ¬ ((qT B n p).1 = 0 ∨ (qT B n p).1 = 6) := by omega
    rw [if_pos (show ¬ fv_gi τ 3 = 0 from fun e => c6 (e0.1 e)), if_neg c06, show zX8_isSign 40 τ = _ from m_sgn hb k.1 40 rfl, fv_bi_ri]
    by_cases c40 : (qT B n p).1 = 40
    · rw [show ((qT B n p).1 == 40) = true by simp [c40], if_neg (show ¬ q01 true = 0 by decide), if_neg (show ¬ ((qT B n p).1 = 41 ∧ o = 1) by omega), if_pos c40]
      exact again (o + 1) _ _ c06 (p_sucN o) (by omega) (by omega)
    have ho1 : 1 ≤ o := by omega
    rw [show ((qT B n p).1 == 40) = false by simp [c40], if_pos (show q01 false = 0 by decide), show zX8_isSign 41 τ = _ from m_sgn hb k.1 41 rfl, fv_bi_ri]
    by_cases c41 : (qT B n p).1 = 41
    · have es : Int32.ofNat o + -1 = Int32.ofNat (o - 1) := by
        obtain ⟨j, rfl⟩ : ∃ j, o = j + 1 := ⟨o - 1, by omega⟩
        rw [← p_sucN, Int32.add_assoc, show (1 : Int32) + -1 = 0 by decide, Int32.add_zero]; rfl
      rw [show ((qT B n p).1 == 41) = true by simp [c41], if_neg (show ¬ q01 true = 0 by decide)]
      by_cases c1 : o = 1
      · rw [if_pos ⟨c41, c1⟩]
        subst c1
        unfold zX8_isPlace_66
        rw [x1, fv_bv_rv, es, if_neg (show ¬ ¬ Int32.ofNat (1 - 1) = 0 by decide), m_ends (qT_b hS _ hb.2.2.1) k1.1, fv_bi_ri, fin]
        exact ⟨τ1, _, rfl, f1⟩
      · rw [if_neg (show ¬ ((qT B n p).1 = 41 ∧ o = 1) by omega), if_neg c40, if_pos c41]
        exact again (o - 1) _ _ c06 es (by omega) (by omega)
    · rw [show ((qT B n p).1 == 41) = false by simp [c41], if_pos (show q01 false = 0 by decide), if_neg (show ¬ ((qT B n p).1 = 41 ∧ o = 1) by omega), if_neg c40, if_neg c41]
      exact again o _ _ c06 (Int32.add_zero _) ho1 (by omega)
theorem m_plc {B : Nat → Nat} {n p : Nat} (hS : qS B n) {N : Nat} (hN : 7000 ≤ N) {τ : fv_S} (h : qM B n τ) (hp : p ≤ n) (k : qMt B (qT B n p) τ) (c : (qT B n p).1 = 40) : ∃ τ', zX8_isPlace N τ = fv_ri (q01 (qWo B n p)) τ' ∧ qFt τ τ' ∧ qMt B (qT B n p) τ' := by
  have hn := hS.1
  have hb := qT_b hS p hp
  unfold zX8_isPlace
  rw [k.1.2.2.1]
  obtain ⟨τ1, y, x1, f1⟩ := m_pl12 hS hN (Int32.ofNat (qT B n p).2.1) (n - p) 6001 p 0 N τ rfl hp (Or.inr c) (by omega) (by omega) (by omega) h k
  rw [show zX8_isPlace_12 N N (Int32.ofNat (qT B n p).2.1) 0 0 1 τ = _ from x1]
  show ∃ τ', zX8_isPlace_12_b _ _ _ _ _ _ _ = _ ∧ _
  unfold zX8_isPlace_12_b
  obtain ⟨τ2, x2, f2, k2⟩ := m_goTo hS hN hb.2.1 (qM_f h f1)
  rw [if_pos rfl, x2, fv_bv_rv]
  rw [(qT_pl hS (by omega)).1] at k2
  refine ⟨τ2, ?_, qFt_t f1 f2, k2⟩
  unfold qWo
  cases qWh B n 6001 0 p with
  | true => exact if_pos (Or.inr rfl)
  | false => exact if_pos (Or.inl rfl)
