set_option maxRecDepth 100000
set_option maxHeartbeats 4000000
/-! The plain law: class and model write alike: the finite check. -/
def p_bh (k : Nat) : Nat := if k = 4 ∨ k = 6 ∨ k = 8 then 1 else if k = 5 ∨ k = 7 then 2 else 0
def p_sz (m : p_F) : Nat := (if m.1 = 0 then 1 else if m.1 < 5 then 2 else 3) + (if m.2.2.2.1 = 10 ∨ m.2.2.2.2.2.1 = 10 then 1 else 0) + p_bh m.2.2.2.1 + p_bh m.2.2.2.2.2.1
def p_wt (c : Nat) : Nat := if c < 1000 then 1 else if c = 1001 then 3 else if c = 1003 then 4 else 5
def p_ml : List Nat → Nat
  | [] => 0
  | c :: r => p_wt c + p_ml r
def p_xkb (ka va : Nat) : Bool := Nat.blt ka 15 && Nat.blt va 256 && (Nat.blt va 8 || Nat.beq ka 11 || Nat.beq ka 12 || Nat.beq ka 13 || Nat.beq ka 0 || Nat.beq ka 4 || Nat.beq ka 5 || Nat.beq ka 6 || Nat.beq ka 7 || Nat.beq ka 8)
noncomputable def p_c1 (P o p w ka va kb vb : Nat) : Bool :=
  decide (p_tX (p, o, w, ka, va, kb, vb) = p_tM (p_k59 P) (p_i60 P) (Int32.ofNat o)) && decide (Int32.ofNat (p_sz (p, o, w, ka, va, kb, vb)) = p_lnP P o) && Nat.blt w 99 && p_xkb ka va && p_xkb kb vb &&
  (Nat.beq (p_bh ka + p_bh kb) 0 || decide (Int32.ofNat (p_sz (p, o, w, ka, va, kb, vb) - (p_bh ka + p_bh kb)) = p_ofP P o) && Nat.ble (p_bh ka + p_bh kb) (p_sz (p, o, w, ka, va, kb, vb))) &&
  (Nat.beq (p_bh ka) 0 || Nat.beq (p_bh kb) 0) &&
  (!(Nat.beq ka 10 || Nat.beq kb 10) || Nat.beq P 5 || Nat.beq P 6 || (Nat.beq P 3 || Nat.beq P 4) && decide (p_hp (Int32.ofNat o) = 1)) &&
  Nat.ble (p_ml (p_tX (p, o, w, ka, va, kb, vb))) 18 && Nat.ble 1 (p_FD (256 * P + o))
noncomputable def p_ck (P o : Nat) : Bool := bif p_ok P o then (match p_at (p_FD (256 * P + o) - 1) with | (p, _, w, ka, va, kb, vb) => p_c1 P o p w ka va kb vb) else true
theorem ck_0 : ∀ o, o < 256 → p_ck 0 o = true := by decide +kernel
theorem ck_1 : ∀ o, o < 256 → p_ck 1 o = true := by decide +kernel
theorem ck_2 : ∀ o, o < 256 → p_ck 2 o = true := by decide +kernel
theorem ck_3 : ∀ o, o < 256 → p_ck 3 o = true := by decide +kernel
theorem ck_4 : ∀ o, o < 256 → p_ck 4 o = true := by decide +kernel
theorem ck_5 : ∀ o, o < 256 → p_ck 5 o = true := by decide +kernel
theorem ck_6 : ∀ o, o < 256 → p_ck 6 o = true := by decide +kernel
theorem ck_all {P o : Nat} (hP : P < 7) (ho : o < 256) : p_ck P o = true := by
  have : P = 0 ∨ P = 1 ∨ P = 2 ∨ P = 3 ∨ P = 4 ∨ P = 5 ∨ P = 6 := by omega
  rcases this with rfl | rfl | rfl | rfl | rfl | rfl | rfl
  · exact ck_0 o ho
  · exact ck_1 o ho
  · exact ck_2 o ho
  · exact ck_3 o ho
  · exact ck_4 o ho
  · exact ck_5 o ho
  · exact ck_6 o ho
theorem p_xkb_of {ka va : Nat} (h : p_xkb ka va = true) : p_xk ka va := by
  unfold p_xkb at h
  simp only [Bool.and_eq_true, Bool.or_eq_true] at h
  obtain ⟨⟨h1, h2⟩, h3⟩ := h
  have a1 := Nat.le_of_ble_eq_true h1
  have a2 := Nat.le_of_ble_eq_true h2
  have a3 : va < 8 ∨ ka = 11 ∨ ka = 12 ∨ ka = 13 ∨ ka = 0 ∨ ka = 4 ∨ ka = 5 ∨ ka = 6 ∨ ka = 7 ∨ ka = 8 := by
    rcases h3 with ((((((((h | h) | h) | h) | h) | h) | h) | h) | h) | h
    · have := Nat.le_of_ble_eq_true h; omega
    all_goals (have := Nat.eq_of_beq_eq_true h; omega)
  unfold p_xk
  omega
/-- what the check says -/
theorem ck_of {P o : Nat} (hP : P < 7) (ho : o < 256) (ok : p_ok P o = true) : ∃ m : p_F, p_at (p_FD (256 * P + o) - 1) = m ∧ p_FD (256 * P + o) ≠ 0 ∧
    p_tX (m.1, o, m.2.2) = p_tM (p_k59 P) (p_i60 P) (Int32.ofNat o) ∧ Int32.ofNat (p_sz (m.1, o, m.2.2)) = p_lnP P o ∧ m.2.2.1 < 99 ∧ p_xk m.2.2.2.1 m.2.2.2.2.1 ∧ p_xk m.2.2.2.2.2.1 m.2.2.2.2.2.2 ∧
    (p_bh m.2.2.2.1 + p_bh m.2.2.2.2.2.1 = 0 ∨ (Int32.ofNat (p_sz (m.1, o, m.2.2) - (p_bh m.2.2.2.1 + p_bh m.2.2.2.2.2.1)) = p_ofP P o ∧ p_bh m.2.2.2.1 + p_bh m.2.2.2.2.2.1 ≤ p_sz (m.1, o, m.2.2))) ∧
    (p_bh m.2.2.2.1 = 0 ∨ p_bh m.2.2.2.2.2.1 = 0) ∧
    ((m.2.2.2.1 = 10 ∨ m.2.2.2.2.2.1 = 10) → P = 5 ∨ P = 6 ∨ ((P = 3 ∨ P = 4) ∧ p_hp (Int32.ofNat o) = 1)) ∧ p_ml (p_tX (m.1, o, m.2.2)) ≤ 18 := by
  have c := ck_all hP ho
  unfold p_ck at c
  rw [ok] at c
  refine ⟨p_at (p_FD (256 * P + o) - 1), rfl, ?_⟩
  generalize p_at (p_FD (256 * P + o) - 1) = m at c ⊢
  obtain ⟨p, o', w, ka, va, kb, vb⟩ := m
  have c : p_c1 P o p w ka va kb vb = true := c
  unfold p_c1 at c
  simp only [Bool.and_eq_true, Bool.or_eq_true, decide_eq_true_eq] at c
  obtain ⟨⟨⟨⟨⟨⟨⟨⟨⟨c1, c2⟩, c3⟩, c4⟩, c5⟩, c6⟩, c7⟩, c8⟩, c9⟩, c10⟩ := c
  have n3 := Nat.le_of_ble_eq_true c3
  have n9 := Nat.le_of_ble_eq_true c9
  have n10 := Nat.le_of_ble_eq_true c10
  refine ⟨by omega, c1, c2, n3, p_xkb_of c4, p_xkb_of c5, ?_, ?_, ?_, n9⟩
  · rcases c6 with c6 | ⟨c6, c6'⟩
    · exact Or.inl (Nat.eq_of_beq_eq_true c6)
    · exact Or.inr ⟨c6, Nat.le_of_ble_eq_true c6'⟩
  · rcases c7 with c7 | c7
    · exact Or.inl (Nat.eq_of_beq_eq_true c7)
    · exact Or.inr (Nat.eq_of_beq_eq_true c7)
  · intro e
    have e : ka = 10 ∨ kb = 10 := e
    rcases c8 with ((c8 | c8) | c8) | c8
    · exfalso
      rcases e with e | e <;> subst e <;> simp at c8
    · exact Or.inl (Nat.eq_of_beq_eq_true c8)
    · exact Or.inr (Or.inl (Nat.eq_of_beq_eq_true c8))
    · refine Or.inr (Or.inr ⟨?_, c8.2⟩)
      rcases c8.1 with d | d
      · exact Or.inl (Nat.eq_of_beq_eq_true d)
      · exact Or.inr (Nat.eq_of_beq_eq_true d)
