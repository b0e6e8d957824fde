set_option maxRecDepth 100000
set_option maxHeartbeats 4000000
/-! The plain law: an instruction in the class: its numbers are checked. -/
theorem Ps_le {B : Nat → Nat} {n : Nat} (hS : qS B n) {a : Option qSm} {l d p : Nat} {s : qSm} {o : qOu} (h : Ps B n a l d p s o) (e : qEv) : p ≤ n → ∀ f p', o = .inr p' → (s e).1 = some f → (∃ s0, a = some s0 ∧ (s0 e).1 = some f) ∨ f.2 < p' := by
  refine (h (fun a l d p s o => Ps B n a l d p s o ∧ (p ≤ n → ∀ f p', o = .inr p' → (s e).1 = some f → (∃ s0, a = some s0 ∧ (s0 e).1 = some f) ∨ f.2 < p')) ⟨?_, ?_, ?_, ?_, ?_, ?_, ?_, ?_, ?_, ?_, ?_, ?_, ?_, ?_, ?_⟩).2
  · intro d p h; exact ⟨Ps_num d p h, fun _ f p' _ hf => absurd hf (by simp)⟩
  · intro d p h; exact ⟨Ps_org d p h, fun _ f p' _ hf => absurd hf (by simp)⟩
  · intro d p h h2
    refine ⟨Ps_nam d p h h2, fun hp f p' ho hf => Or.inr ?_⟩
    have hb := qT_b hS p hp
    have := hb.2.2.2.1 (by omega) (by omega)
    injection ho with ho
    unfold qnv at hf
    cases hv : e.1 (qna B (qT B n p)) with
    | some v => rw [hv] at hf; exact absurd hf (by simp)
    | none =>
      rw [hv] at hf
      have e2 := Option.some.inj hf
      rw [← e2, ← ho]; exact this
  · intro d p h h2; exact ⟨Ps_res d p h h2, fun _ f p' ho => absurd ho (by simp)⟩
  · intro d p s o h hd h2
    refine ⟨Ps_una d p s o h hd h2.1, fun hp f p' ho hf => ?_⟩
    have hb := qT_b hS p hp
    rcases h2.2 hb.2.2.1 f p' ho hf with ⟨s0, h0, _⟩ | h0
    · exact absurd h0 (by simp)
    · exact Or.inr h0
  · intro d p s f h hd h2; exact ⟨Ps_brt d p s f h hd h2.1, fun _ f p' ho => absurd ho (by simp)⟩
  · intro d p s p1 h hd h2 h3
    refine ⟨Ps_bra d p s p1 h hd h2.1 h3, fun hp f p' ho hf => ?_⟩
    injection ho with ho
    have hb := qT_b hS p hp
    have t := Ps_lt hS h2.1 hb.2.2.1 p1 rfl
    have hb1 := qT_b hS p1 t.1
    have := hb1.1
    have := hb1.2.2.2.1 (by omega) (by omega)
    rcases h2.2 hb.2.2.1 f p1 rfl hf with ⟨s0, h0, _⟩ | h0
    · exact absurd h0 (by simp)
    · exact Or.inr (by omega)
  · intro d p s p1 h hd h2 h3; exact ⟨Ps_brw d p s p1 h hd h2.1 h3, fun _ f p' ho => absurd ho (by simp)⟩
  · intro d p h hd; exact ⟨Ps_dep d p h hd, fun _ f p' ho => absurd ho (by simp)⟩
  · intro d p h; exact ⟨Ps_bad d p h, fun _ f p' ho => absurd ho (by simp)⟩
  · intro l d p s f h1 h6 h; exact ⟨Ps_lvt l d p s f h1 h6 h.1, fun _ f p' ho => absurd ho (by simp)⟩
  · intro l d p s p1 s' o h1 h6 h h2
    refine ⟨Ps_lv l d p s p1 s' o h1 h6 h.1 h2.1, fun hp f p' ho hf => ?_⟩
    have t := Ps_lt hS h.1 hp p1 rfl
    have t2 := Ps_lt hS h2.1 t.1 p' ho
    rcases h2.2 t.1 f p' ho hf with ⟨s0, h0, h00⟩ | h0
    · have := Option.some.inj h0; subst this
      rcases h.2 hp f p1 rfl h00 with ⟨s0, h0, _⟩ | h0
      · exact absurd h0 (by simp)
      · exact Or.inr (by omega)
    · exact Or.inr h0
  · intro s l d p h1 h6 h
    exact ⟨Ps_stop s l d p h1 h6 h, fun _ f p' _ hf => Or.inl ⟨s, rfl, hf⟩⟩
  · intro s l d p s2 f h1 h6 h h2; exact ⟨Ps_opt s l d p s2 f h1 h6 h h2.1, fun _ f p' ho => absurd ho (by simp)⟩
  · intro s l d p s2 p1 s' o h1 h6 h h2 h3
    refine ⟨Ps_op s l d p s2 p1 s' o h1 h6 h h2.1 h3.1, fun hp f p' ho hf => ?_⟩
    have hb := qT_b hS p hp
    have hk := qlv_k (k := (qT B n p).1) (by omega)
    have hb1 := hb.1
    have hb2 := hb.2.2.2.1 hk.1 hk.2.1
    have t := Ps_lt hS h2.1 hb.2.2.1 p1 rfl
    have t3 := Ps_lt hS h3.1 t.1 p' ho
    rcases h3.2 t.1 f p' ho hf with ⟨s0, h0, h00⟩ | h0
    · have := Option.some.inj h0; subst this
      have h00' : qoe (s e).1 (qoe (s2 e).1 (if (qT B n p).1 = 47 ∧ (s2 e).2 = 0 then some (5, (qT B n p).2.1) else none)) = some f := h00
      cases hs : (s e).1 with
      | some g => rw [hs] at h00'; exact Or.inl ⟨s, rfl, hs.trans h00'⟩
      | none =>
        rw [hs] at h00'
        cases hs2 : (s2 e).1 with
        | some g =>
          rw [hs2] at h00'
          rcases h2.2 hb.2.2.1 f p1 rfl (hs2.trans h00') with ⟨s0, h0, _⟩ | h0
          · exact absurd h0 (by simp)
          · exact Or.inr (by omega)
        | none =>
          rw [hs2] at h00'
          have h1' : (if (qT B n p).1 = 47 ∧ (s2 e).2 = 0 then some (5, (qT B n p).2.1) else none) = some f := h00'
          by_cases c : (qT B n p).1 = 47 ∧ (s2 e).2 = 0
          · rw [if_pos c] at h1'
            have e3 := Option.some.inj h1'
            have : f.2 = (qT B n p).2.1 := by rw [← e3]
            exact Or.inr (by omega)
          · rw [if_neg c] at h1'; exact absurd h1' (by simp)
    · exact Or.inr h0
theorem qEX_le {B : Nat → Nat} {n p p' : Nat} (hS : qS B n) (hp : p ≤ n) (e : qEv) (f : Nat × Nat) (ho : (qEX B n p).2 = .inr p') (h : ((qEX B n p).1 e).1 = some f) : f.2 < p' := by
  rcases Ps_le hS (qEX_s hS hp) e hp f p' ho h with ⟨s0, h0, _⟩ | h0
  · exact absurd h0 (by simp)
  · exact h0
/-- where an operand's number lies -/
theorem qOp_pl {B : Nat → Nat} {n p p' : Nat} (hS : qS B n) (hp : p ≤ n) (ho : (qOp B n p).2.2.2.2 = .inr p') (hc : 4 ≤ (qOp B n p).1) : p ≤ (qOp B n p).2.2.2.1 ∧ (qOp B n p).2.2.2.1 ≤ n ∧ p' ≤ n ∧ (qT B n (qOp B n p).2.2.2.1).2.1 < p' ∧ (∀ e f, ((qEX B n (qOp B n p).2.2.2.1).1 e).1 = some f → f.2 < p') := by
  have hb := qT_b hS p hp
  have hb1 := qT_b hS _ hb.2.2.1
  have hb2 := qT_b hS _ hb1.2.2.1
  have hx : ∀ pe p1, pe ≤ n → (qEX B n pe).2 = .inr p1 → (qT B n pe).2.1 < p1 ∧ p1 ≤ n ∧ (∀ e f, ((qEX B n pe).1 e).1 = some f → f.2 < p1) := by
    intro pe p1 h1 h2
    exact ⟨Ps_st hS (qEX_s hS h1) rfl h1 p1 h2, (Ps_lt hS (qEX_s hS h1) h1 p1 h2).1, fun e f hf => qEX_le hS h1 e f h2 hf⟩
  have hc2 : ∀ pe p1, pe ≤ n → qcl B n (qEX B n pe).2 = .inr p1 → (qT B n pe).2.1 < p1 ∧ p1 ≤ n ∧ (∀ e f, ((qEX B n pe).1 e).1 = some f → f.2 < p1) := by
    intro pe p1 h1 h2
    unfold qcl at h2
    cases hq : (qEX B n pe).2 with
    | inl f => rw [hq] at h2; exact absurd h2 (by simp)
    | inr pq =>
      rw [hq] at h2
      obtain ⟨a1, a2, a3⟩ := hx pe pq h1 hq
      have hbq := qT_b hS pq a2
      have h2 : (if (qT B n pq).1 = 41 then (Sum.inr (qT B n pq).2.2.1 : qOu) else .inl (qwr (qT B n pq), (qT B n pq).2.1)) = .inr p1 := h2
      by_cases c : (qT B n pq).1 = 41
      · rw [if_pos c] at h2
        injection h2 with h2
        have := hbq.1
        have := hbq.2.2.2.1 (by omega) (by omega)
        exact ⟨by omega, by have := hbq.2.2.1; omega, fun e f hf => by have := a3 e f hf; omega⟩
      · rw [if_neg c] at h2; exact absurd h2 (by simp)
  have q1 := hb.1
  have q2 := hb1.1
  have l1 : (qT B n p).1 ≠ 0 → (qT B n p).1 ≠ 6 → p ≤ (qT B n p).2.2.1 := fun a b => by have := hb.2.2.2.1 a b; omega
  revert ho hc
  unfold qOp
  split
  · rename_i h0
    have l := l1 (by omega) (by omega)
    split
    · rename_i h
      split
      · intro _ hc; exact absurd hc (by show ¬ 4 ≤ 3; omega)
      · intro ho _
        have t1 : (qT B n (qT B n p).2.2.1).1 = 1 := by
          rcases h.1 with e | e
          · exact qrt_lt e (by omega)
          · exact qrt_lt e (by omega)
        have := hb1.2.2.2.1 (by omega) (by omega)
        have q3 := hb2.1
        have := hb2.2.2.2.1 (by omega) (by omega)
        obtain ⟨a1, a2, a3⟩ := hc2 _ _ hb2.2.2.1 ho
        exact ⟨by show p ≤ (qT B n (qT B n (qT B n p).2.2.1).2.2.1).2.2.1; omega, hb2.2.2.1, a2, a1, a3⟩
    · split
      · intro _ hc; exact absurd hc (by show ¬ 4 ≤ 2; omega)
      · intro ho _
        obtain ⟨a1, a2, a3⟩ := hc2 _ _ hb.2.2.1 ho
        exact ⟨l, hb.2.2.1, a2, a1, a3⟩
  · split
    · intro _ hc; exact absurd hc (by show ¬ 4 ≤ 1; omega)
    · intro ho _
      obtain ⟨a1, a2, a3⟩ := hx _ _ hp ho
      exact ⟨Nat.le_refl _, hp, a2, a1, a3⟩
