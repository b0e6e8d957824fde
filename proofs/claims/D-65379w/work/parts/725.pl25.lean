set_option maxRecDepth 100000
set_option maxHeartbeats 4000000
/-! The plain law: the machine's need of the table is met. -/
def p_at (k : Nat) : p_F := p_TL.getD k (0, 0, 0, 0, 0, 0, 0)
theorem t_oct : ∀ k, k < 696 → (p_at k).2.1 < 256 := by decide +kernel
theorem pFm_at {σ : fv_S} (h : pFm σ) {k : Nat} (hk : k < 696) : fv_gw σ 9 k = (p_cv (p_at k)).1 ∧ fv_gw σ 10 k = (p_cv (p_at k)).2.1 ∧ fv_gw σ 4 k = (p_cv (p_at k)).2.2.1 ∧ fv_gw σ 5 k = (p_cv (p_at k)).2.2.2.1 ∧ fv_gw σ 6 k = (p_cv (p_at k)).2.2.2.2.1 ∧ fv_gw σ 7 k = (p_cv (p_at k)).2.2.2.2.2.1 ∧ fv_gw σ 8 k = (p_cv (p_at k)).2.2.2.2.2.2 := by
  have hl : k < p_TL.length := by rw [t_len]; exact hk
  unfold p_at
  rw [t_get k hl]
  exact h.2.1 k hl
/-- a form by its key -/
theorem t_by {σ : fv_S} (h : pFm σ) {P o : Nat} (hP : P < 7) (ho : o < 256) (h0 : p_FD (256 * P + o) ≠ 0) : ∃ f, f < 696 ∧ p_FD (256 * P + o) = f + 1 ∧ fv_gw σ 11 (256 * P + o) = Int32.ofNat f ∧ (p_at f).1 = P ∧ (p_at f).2.1 = o := by
  have c2 := (t_c2 (256 * P + o) (by omega)).resolve_left h0
  obtain ⟨f, e⟩ : ∃ f, p_FD (256 * P + o) = f + 1 := ⟨p_FD (256 * P + o) - 1, by omega⟩
  refine ⟨f, by omega, e, ?_, ?_⟩
  · rw [h.2.2 _ (by omega), e, Int32.ofNat_add]
    show Int32.ofNat f + 1 - 1 = Int32.ofNat f
    rw [Int32.add_sub_cancel]
  · have e2 := c2.2
    rw [e] at e2
    have e3 : 256 * (p_at f).1 + (p_at f).2.1 = 256 * P + o := e2
    have o1 := t_oct f (by omega)
    omega
theorem pFT_of {σ : fv_S} (h : pFm σ) : pFT σ := by
  intro P o hP ho
  have c := t_chk P hP o ho
  unfold p_chk at c
  by_cases ok : p_ok P o = true
  · rw [if_pos ok] at c ⊢
    simp only [Bool.and_eq_true, Bool.or_eq_true] at c
    obtain ⟨⟨c1, c2⟩, c3⟩ := c
    have n1 := Nat.le_of_ble_eq_true c1
    obtain ⟨f, e2, e1, e3, e4, e5⟩ := t_by h hP ho (by omega)
    obtain ⟨a1, a2, a3, a4, a5, a6, a7⟩ := pFm_at h e2
    refine ⟨f, by omega, e3, ?_, ?_, ?_⟩
    · rw [a1]; show Int32.ofNat (p_at f).1 = _; rw [e4]
    · rw [a2]; show Int32.ofNat (p_at f).2.1 = _; rw [e5]
    · intro h34
      have sm := t_small f e2
      have s1 : (p_at f).2.2.2.1 < 256 := sm.1
      have s2 : (p_at f).2.2.2.2.2.1 < 256 := sm.2
      rw [a4, a6]
      show (Int32.ofNat (p_at f).2.2.2.1 = 10 ∨ Int32.ofNat (p_at f).2.2.2.2.2.1 = 10) ↔ _
      rw [show (Int32.ofNat (p_at f).2.2.2.1 = (10 : Int32)) = ((p_at f).2.2.2.1 = 10) from p_lit s1 10 (by omega), show (Int32.ofNat (p_at f).2.2.2.2.2.1 = (10 : Int32)) = ((p_at f).2.2.2.2.2.1 = 10) from p_lit s2 10 (by omega)]
      rcases c3 with c3 | c3
      · simp at c3; omega
      · rw [show p_FD (256 * P + o) - 1 = f by omega] at c3
        have c4 : (Nat.beq (p_at f).2.2.2.1 10 || Nat.beq (p_at f).2.2.2.2.2.1 10) = decide (p_hp (Int32.ofNat o) = 1) := eq_of_beq c3
        constructor
        · intro e
          have : (Nat.beq (p_at f).2.2.2.1 10 || Nat.beq (p_at f).2.2.2.2.2.1 10) = true := by
            rw [Bool.or_eq_true]
            rcases e with e | e
            · left; rw [e]; rfl
            · right; rw [e]; rfl
          rw [this] at c4
          exact of_decide_eq_true c4.symm
        · intro e
          rw [decide_eq_true e, Bool.or_eq_true] at c4
          rcases c4 with c4 | c4
          · exact Or.inl (Nat.eq_of_beq_eq_true c4)
          · exact Or.inr (Nat.eq_of_beq_eq_true c4)
  · rw [if_neg ok] at c ⊢
    have := Nat.eq_of_beq_eq_true c
    rw [h.2.2 _ (by omega), this]; decide
