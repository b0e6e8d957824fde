set_option maxRecDepth 100000
set_option maxHeartbeats 4000000
/-! The plain law: an instruction: what it comes to. -/
def qdz : Nat × Nat × Bool × Nat × qOu := (0, 0, false, 0, .inr 0)
/-- how many operands, the outcome -/
noncomputable def qOm (B : Nat → Nat) (n p : Nat) : Nat × qOu := if (qT B n p).1 = 0 then (0, .inr p) else match (qOp B n p).2.2.2.2 with
  | .inl f => (1, .inl f)
  | .inr p1 => if (qT B n p1).1 = 44 then (2, (qOp B n (qT B n p1).2.2.1).2.2.2.2) else (1, .inr p1)
theorem qOm_0 {B : Nat → Nat} {n p : Nat} (h : (qT B n p).1 = 0) : qOm B n p = (0, .inr p) := by unfold qOm; rw [if_pos h]
theorem qOm_i {B : Nat → Nat} {n p : Nat} {f : Nat × Nat} (h : ¬ (qT B n p).1 = 0) (ho : (qOp B n p).2.2.2.2 = .inl f) : qOm B n p = (1, .inl f) := by unfold qOm; rw [if_neg h, ho]
theorem qOm_c {B : Nat → Nat} {n p p1 : Nat} (h : ¬ (qT B n p).1 = 0) (ho : (qOp B n p).2.2.2.2 = .inr p1) (c : (qT B n p1).1 = 44) : qOm B n p = (2, (qOp B n (qT B n p1).2.2.1).2.2.2.2) := by unfold qOm; rw [if_neg h, ho]; exact if_pos c
theorem qOm_e {B : Nat → Nat} {n p p1 : Nat} (h : ¬ (qT B n p).1 = 0) (ho : (qOp B n p).2.2.2.2 = .inr p1) (c : ¬ (qT B n p1).1 = 44) : qOm B n p = (1, .inr p1) := by unfold qOm; rw [if_neg h, ho]; exact if_neg c
/-- the two operands; an operand that is not there is none -/
noncomputable def qd0 (B : Nat → Nat) (n p : Nat) : Nat × Nat × Bool × Nat × qOu := if 1 ≤ (qOm B n p).1 then qOp B n p else qdz
noncomputable def qd1 (B : Nat → Nat) (n p : Nat) : Nat × Nat × Bool × Nat × qOu := if 2 ≤ (qOm B n p).1 then qO2 B n p else qdz
theorem qOm_n (B : Nat → Nat) (n p : Nat) : (qOm B n p).1 = 0 ∨ (qOm B n p).1 = 1 ∨ (qOm B n p).1 = 2 := by
  by_cases c0 : (qT B n p).1 = 0
  · rw [qOm_0 c0]; exact Or.inl rfl
  · cases ho : (qOp B n p).2.2.2.2 with
    | inl f => rw [qOm_i c0 ho]; exact Or.inr (Or.inl rfl)
    | inr p1 =>
      by_cases c : (qT B n p1).1 = 44
      · rw [qOm_c c0 ho c]; exact Or.inr (Or.inr rfl)
      · rw [qOm_e c0 ho c]; exact Or.inr (Or.inl rfl)
theorem qd_D (B : Nat → Nat) (n p : Nat) : eD (qOm B n p).1 (qd0 B n p).1 (qd0 B n p).2.1 (qd1 B n p).1 (qd1 B n p).2.1 := by
  unfold qd0 qd1
  by_cases c0 : (qT B n p).1 = 0
  · rw [qOm_0 c0]; exact Or.inl ⟨rfl, rfl, rfl, rfl, rfl⟩
  · cases ho : (qOp B n p).2.2.2.2 with
    | inl f =>
      rw [qOm_i c0 ho]
      exact Or.inr (Or.inl ⟨rfl, by show ((if 1 ≤ (1 : Nat) then qOp B n p else qdz).1, (if 1 ≤ (1 : Nat) then qOp B n p else qdz).2.1) ∈ e_D; rw [if_pos (Nat.le_refl 1)]; exact qOp_D B n p, rfl, rfl⟩)
    | inr p1 =>
      by_cases c : (qT B n p1).1 = 44
      · rw [qOm_c c0 ho c, qO2_e ho]
        refine Or.inr (Or.inr ⟨rfl, ?_, ?_⟩)
        · show ((if 1 ≤ (2 : Nat) then qOp B n p else qdz).1, (if 1 ≤ (2 : Nat) then qOp B n p else qdz).2.1) ∈ e_D
          rw [if_pos (by omega)]; exact qOp_D B n p
        · show ((if 2 ≤ (2 : Nat) then qOp B n (qT B n p1).2.2.1 else qdz).1, (if 2 ≤ (2 : Nat) then qOp B n (qT B n p1).2.2.1 else qdz).2.1) ∈ e_D
          rw [if_pos (by omega)]; exact qOp_D B n _
      · rw [qOm_e c0 ho c]
        exact Or.inr (Or.inl ⟨rfl, by show ((if 1 ≤ (1 : Nat) then qOp B n p else qdz).1, (if 1 ≤ (1 : Nat) then qOp B n p else qdz).2.1) ∈ e_D; rw [if_pos (Nat.le_refl 1)]; exact qOp_D B n p, rfl, rfl⟩)
theorem eD_le {m c0 j0 c1 j1 : Nat} (h : eD m c0 j0 c1 j1) : c0 ≤ 6 ∧ j0 < 99 ∧ c1 ≤ 6 ∧ j1 < 99 := by
  have k : ∀ d ∈ e_D, d.1 ≤ 6 ∧ d.2 < 99 := by decide +kernel
  rcases h with ⟨rfl, rfl, rfl, rfl, rfl⟩ | ⟨rfl, h0, rfl, rfl⟩ | ⟨rfl, h0, h1⟩
  · exact ⟨by omega, by omega, by omega, by omega⟩
  · exact ⟨(k _ h0).1, (k _ h0).2, by omega, by omega⟩
  · exact ⟨(k _ h0).1, (k _ h0).2, (k _ h1).1, (k _ h1).2⟩
noncomputable def qev (B : Nat → Nat) (n : Nat) (e : qEv) (d : Nat × Nat × Bool × Nat × qOu) : Option (Nat × Nat) := if 4 ≤ d.1 then ((qEX B n d.2.2.2.1).1 e).1 else none
noncomputable def qva (B : Nat → Nat) (n : Nat) (e : qEv) (d : Nat × Nat × Bool × Nat × qOu) : Int32 := if 4 ≤ d.1 then (if d.2.2.1 = true then - ((qEX B n d.2.2.2.1).1 e).2 else ((qEX B n d.2.2.2.1).1 e).2) else 0
noncomputable def qpl (B : Nat → Nat) (n : Nat) (d : Nat × Nat × Bool × Nat × qOu) : Nat := (qT B n d.2.2.2.1).2.1
theorem qOg_e (B : Nat → Nat) (n : Nat) (sec : Bool) (L : List (List Nat × Int32)) (org : Nat) (d : Nat × Nat × Bool × Nat × qOu) : qOg B n sec L org d = if sec = true then qev B n (qen L org) d else none := by
  unfold qOg qev
  by_cases hs : sec = true
  · rw [if_pos hs]
    by_cases c : 4 ≤ d.1
    · rw [if_pos ⟨hs, c⟩, if_pos c]
    · rw [if_neg (fun e => c e.2), if_neg c]
  · rw [if_neg hs, if_neg (fun e => hs e.1)]
theorem qOg_z (B : Nat → Nat) (n : Nat) (sec : Bool) (L : List (List Nat × Int32)) (org : Nat) : qOg B n sec L org qdz = none := by
  unfold qOg; rw [if_neg (fun e => absurd e.2 (show ¬ 4 ≤ (0 : Nat) by omega))]
theorem qOs_m (B : Nat → Nat) (n : Nat) (sec : Bool) (L : List (List Nat × Int32)) (org p : Nat) : (qOs B n sec L org p).1 = (qOm B n p).1 ∧ (qOs B n sec L org p).2.2 = (qOm B n p).2 ∧ (qOs B n sec L org p).2.1 = qoe (qOg B n sec L org (qd0 B n p)) (qOg B n sec L org (qd1 B n p)) := by
  unfold qd0 qd1
  by_cases c0 : (qT B n p).1 = 0
  · rw [qOs_0 c0, qOm_0 c0]
    refine ⟨rfl, rfl, ?_⟩
    show none = qoe (qOg B n sec L org (if 1 ≤ (0 : Nat) then qOp B n p else qdz)) (qOg B n sec L org (if 2 ≤ (0 : Nat) then qO2 B n p else qdz))
    rw [if_neg (by omega), if_neg (by omega), qOg_z]; rfl
  · cases ho : (qOp B n p).2.2.2.2 with
    | inl f =>
      rw [qOs_i c0 ho, qOm_i c0 ho]
      refine ⟨rfl, rfl, ?_⟩
      show _ = qoe (qOg B n sec L org (if 1 ≤ (1 : Nat) then qOp B n p else qdz)) (qOg B n sec L org (if 2 ≤ (1 : Nat) then qO2 B n p else qdz))
      rw [if_pos (by omega), if_neg (by omega), qOg_z, qoe_n]
    | inr p1 =>
      by_cases c : (qT B n p1).1 = 44
      · rw [qOs_c c0 ho c, qOm_c c0 ho c, qO2_e ho]
        refine ⟨rfl, rfl, ?_⟩
        show _ = qoe (qOg B n sec L org (if 1 ≤ (2 : Nat) then qOp B n p else qdz)) (qOg B n sec L org (if 2 ≤ (2 : Nat) then qOp B n (qT B n p1).2.2.1 else qdz))
        rw [if_pos (by omega), if_pos (by omega)]
      · rw [qOs_e c0 ho c, qOm_e c0 ho c]
        refine ⟨rfl, rfl, ?_⟩
        show _ = qoe (qOg B n sec L org (if 1 ≤ (1 : Nat) then qOp B n p else qdz)) (qOg B n sec L org (if 2 ≤ (1 : Nat) then qO2 B n p else qdz))
        rw [if_pos (by omega), if_neg (by omega), qOg_z, qoe_n]
/-- an operand ends behind where it begins -/
theorem qOp_n {B : Nat → Nat} {n p p' : Nat} (hS : qS B n) (hp : p ≤ n) (ho : (qOp B n p).2.2.2.2 = .inr p') : p ≤ p' ∧ p' ≤ n := by
  have hb := qT_b hS p hp
  have hb1 := qT_b hS _ hb.2.2.1
  have hb2 := qT_b hS _ hb1.2.2.1
  have st : ∀ pe, pe ≤ n → (qT B n pe).1 ≠ 0 → (qT B n pe).1 ≠ 6 → pe ≤ (qT B n pe).2.2.1 ∧ (qT B n pe).2.2.1 ≤ n := by
    intro pe h a b
    have t := qT_b hS pe h
    have t1 := t.1
    have t2 := t.2.2.2.1 a b
    exact ⟨by omega, t.2.2.1⟩
  have hx : ∀ pe p1, pe ≤ n → (qEX B n pe).2 = .inr p1 → pe ≤ p1 ∧ p1 ≤ n := by
    intro pe p1 h1 h2
    have t := Ps_st hS (qEX_s hS h1) rfl h1 p1 h2
    have t1 := (qT_b hS pe h1).1
    exact ⟨by omega, (Ps_lt hS (qEX_s hS h1) h1 p1 h2).1⟩
  have hc2 : ∀ pe p1, pe ≤ n → qcl B n (qEX B n pe).2 = .inr p1 → pe ≤ p1 ∧ p1 ≤ n := by
    intro pe p1 h1 h2
    unfold qcl at h2
    cases hq : (qEX B n pe).2 with
    | inl f => rw [hq] at h2; exact absurd h2 (by simp)
    | inr pq =>
      rw [hq] at h2
      obtain ⟨a1, a2⟩ := hx pe pq h1 hq
      have h2 : (if (qT B n pq).1 = 41 then (Sum.inr (qT B n pq).2.2.1 : qOu) else .inl (qwr (qT B n pq), (qT B n pq).2.1)) = .inr p1 := h2
      by_cases c : (qT B n pq).1 = 41
      · rw [if_pos c] at h2
        injection h2 with h2
        have := st pq a2 (by omega) (by omega)
        omega
      · rw [if_neg c] at h2; exact absurd h2 (by simp)
  revert ho
  unfold qOp
  split
  · rename_i h0
    have l := st p hp (by omega) (by omega)
    split
    · rename_i h
      have t1 : (qT B n (qT B n p).2.2.1).1 = 1 := by
        rcases h.1 with e | e
        · exact qrt_lt e (by omega)
        · exact qrt_lt e (by omega)
      have l1 := st _ l.2 (by omega) (by omega)
      have l2 := st _ l1.2 (by omega) (by omega)
      split
      · intro ho
        have := Sum.inr.inj ho
        omega
      · intro ho
        have := hc2 _ _ l2.2 ho
        omega
    · split
      · rename_i h
        intro ho
        have t1 : (qT B n (qT B n p).2.2.1).1 = 1 := by
          rcases h.2 with e | e | e | e | e
          · exact qrt_lt e (by omega)
          · exact qrt_lt e (by omega)
          · exact qrt_lt e (by omega)
          · exact qrt_lt e (by omega)
          · exact qrt_lt e (by omega)
        have l1 := st _ l.2 (by omega) (by omega)
        have l2 := st _ l1.2 (by omega) (by omega)
        have := Sum.inr.inj ho
        omega
      · intro ho
        have := hc2 _ _ l.2 ho
        omega
  · split
    · rename_i h
      intro ho
      have t1 : (qT B n p).1 = 1 := qrt_lt rfl h.2.1
      have l := st p hp (by omega) (by omega)
      have := Sum.inr.inj ho
      omega
    · intro ho
      have := hx _ _ hp ho
      omega
/-- where the numbers of the operands lie -/
theorem qd_pl {B : Nat → Nat} {n p p' : Nat} (hS : qS B n) (hp : p ≤ n) (ho : (qOm B n p).2 = .inr p') :
    p ≤ p' ∧ p' ≤ n ∧ (4 ≤ (qd0 B n p).1 → qpl B n (qd0 B n p) < p' ∧ (qd0 B n p).2.2.2.1 ≤ n ∧ ∀ e f, qev B n e (qd0 B n p) = some f → f.2 < p') ∧ (4 ≤ (qd1 B n p).1 → qpl B n (qd1 B n p) < p' ∧ (qd1 B n p).2.2.2.1 ≤ n ∧ ∀ e f, qev B n e (qd1 B n p) = some f → f.2 < p') ∧ (4 ≤ (qd0 B n p).1 → 4 ≤ (qd1 B n p).1 → qpl B n (qd0 B n p) < qpl B n (qd1 B n p) ∧ (∀ e f, qev B n e (qd0 B n p) = some f → f.2 < qpl B n (qd1 B n p)) ∧ (∀ e f, qev B n e (qd1 B n p) = some f → qpl B n (qd0 B n p) < f.2)) := by
  have evi : ∀ (e : qEv) (d : Nat × Nat × Bool × Nat × qOu) (f : Nat × Nat), qev B n e d = some f → 4 ≤ d.1 ∧ ((qEX B n d.2.2.2.1).1 e).1 = some f := by
    intro e d f h
    unfold qev at h
    by_cases c : 4 ≤ d.1
    · rw [if_pos c] at h; exact ⟨c, h⟩
    · rw [if_neg c] at h; exact absurd h (by simp)
  have z4 : ¬ 4 ≤ qdz.1 := show ¬ 4 ≤ (0 : Nat) by omega
  by_cases c0 : (qT B n p).1 = 0
  · have e0 : qd0 B n p = qdz := by unfold qd0; rw [qOm_0 c0]; exact if_neg (show ¬ 1 ≤ (0 : Nat) by omega)
    have e1 : qd1 B n p = qdz := by unfold qd1; rw [qOm_0 c0]; exact if_neg (show ¬ 2 ≤ (0 : Nat) by omega)
    rw [qOm_0 c0] at ho
    have := Sum.inr.inj ho
    rw [e0, e1]
    exact ⟨by omega, by omega, fun h => absurd h z4, fun h => absurd h z4, fun h => absurd h z4⟩
  · cases hq : (qOp B n p).2.2.2.2 with
    | inl f => rw [qOm_i c0 hq] at ho; exact absurd ho (by simp)
    | inr p1 =>
      have o1 := qOp_n hS hp hq
      have A0 : 4 ≤ (qOp B n p).1 → qpl B n (qOp B n p) < p1 ∧ (qOp B n p).2.2.2.1 ≤ n ∧ ∀ e f, qev B n e (qOp B n p) = some f → f.2 < p1 := by
        intro h
        obtain ⟨a1, a2, a3, a4, a5⟩ := qOp_pl hS hp hq h
        exact ⟨a4, a2, fun e f hf => a5 e f (evi e _ f hf).2⟩
      by_cases c : (qT B n p1).1 = 44
      · have e0 : qd0 B n p = qOp B n p := by unfold qd0; rw [qOm_c c0 hq c]; exact if_pos (show 1 ≤ (2 : Nat) by omega)
        have e1 : qd1 B n p = qOp B n (qT B n p1).2.2.1 := by unfold qd1; rw [qOm_c c0 hq c, qO2_e hq]; exact if_pos (show 2 ≤ (2 : Nat) by omega)
        rw [qOm_c c0 hq c] at ho
        have ho : (qOp B n (qT B n p1).2.2.1).2.2.2.2 = .inr p' := ho
        have hb1 := qT_b hS p1 o1.2
        have b1 := hb1.1
        have b2 := hb1.2.2.2.1 (by omega) (by omega)
        have o2 := qOp_n hS hb1.2.2.1 ho
        rw [e0, e1]
        refine ⟨by omega, o2.2, fun h => ?_, fun h => ?_, fun h h' => ?_⟩
        · obtain ⟨a1, a2, a3⟩ := A0 h
          exact ⟨by omega, a2, fun e f hf => by have := a3 e f hf; omega⟩
        · obtain ⟨a1, a2, a3, a4, a5⟩ := qOp_pl hS hb1.2.2.1 ho h
          exact ⟨a4, a2, fun e f hf => a5 e f (evi e _ f hf).2⟩
        · obtain ⟨a1, a2, a3⟩ := A0 h
          obtain ⟨d1, d2, d3, d4, d5⟩ := qOp_pl hS hb1.2.2.1 ho h'
          have t := (qT_b hS _ d2).1
          refine ⟨by unfold qpl at a1 ⊢; omega, fun e f hf => ?_, fun e f hf => ?_⟩
          · have := a3 e f hf; unfold qpl; omega
          · have := (qEX_ge hS d2 e f (evi e _ f hf).2).1; omega
      · have e0 : qd0 B n p = qOp B n p := by unfold qd0; rw [qOm_e c0 hq c]; exact if_pos (show 1 ≤ (1 : Nat) by omega)
        have e1 : qd1 B n p = qdz := by unfold qd1; rw [qOm_e c0 hq c]; exact if_neg (show ¬ 2 ≤ (1 : Nat) by omega)
        rw [qOm_e c0 hq c] at ho
        have := Sum.inr.inj ho
        subst this
        rw [e0, e1]
        exact ⟨o1.1, o1.2, A0, fun h => absurd h z4, fun _ h => absurd h z4⟩
/-- a number's fault -/
def qEr (ev : Option (Nat × Nat)) (pl c : Nat) (ok : Bool) : Option (Nat × Nat) := if 4 ≤ c then qoe ev (if ok = true then none else some (5, pl)) else none
def qo0 (w k c : Nat) (v nx : Int32) : Bool := (!decide (c = 6) || qRp (e_pk w) v) && qRk k v nx
theorem qG_ch {ev0 ev1 : Option (Nat × Nat)} {c0 c1 pl0 pl1 : Nat} {okp okk ok1 : Bool} (h0 : c0 < 4 → ev0 = none) (h1 : c1 < 4 → ev1 = none) (hp : 4 ≤ c0 → 4 ≤ c1 → pl0 < pl1 ∧ (∀ f, ev0 = some f → f.2 < pl1) ∧ (∀ f, ev1 = some f → pl0 < f.2)) {G1 G2 G3 : Option (Nat × Nat)} (e1 : G1 = if c0 = 6 ∧ ev0 = none ∧ okp = false then qtm (qoe ev0 ev1) (5, pl0) else qoe ev0 ev1) (e2 : G2 = if 4 ≤ c0 ∧ ev0 = none ∧ okk = false then qtm G1 (5, pl0) else G1) (e3 : G3 = if 4 ≤ c1 ∧ ev1 = none ∧ ok1 = false then qtm G2 (5, pl1) else G2) :
    G3 = qoe (qEr ev0 pl0 c0 ((!decide (c0 = 6) || okp) && okk)) (qEr ev1 pl1 c1 ok1) := by
  have tn : ∀ f, qtm none f = some f := fun _ => rfl
  have ts : ∀ f, qtm (some f) f = some f := fun f => by show (if f.2 < f.2 ∨ (f.2 = f.2 ∧ f.1 ≤ f.1) then some f else some f) = _; split <;> rfl
  cases v0 : ev0 with
  | some g =>
    have c4 : 4 ≤ c0 := by
      by_cases c : 4 ≤ c0
      · exact c
      · have := h0 (by omega); rw [v0] at this; exact absurd this (by simp)
    rw [v0] at e1 e2 hp
    have r : qoe (qEr (some g) pl0 c0 ((!decide (c0 = 6) || okp) && okk)) (qEr ev1 pl1 c1 ok1) = some g := by unfold qEr; rw [if_pos c4]; rfl
    rw [if_neg (fun h => absurd h.2.1 (by simp))] at e1 e2
    rw [r, e3, e2, e1]
    show (if 4 ≤ c1 ∧ ev1 = none ∧ ok1 = false then qtm (some g) (5, pl1) else some g) = some g
    split
    · rename_i h
      exact qtm_lt ((hp c4 h.1).2.1 g rfl)
    · rfl
  | none =>
    rw [v0] at e1 e2
    have q0 : ∀ x : Option (Nat × Nat), qoe none x = x := fun _ => rfl
    rw [q0] at e1
    by_cases bad : 4 ≤ c0 ∧ ((!decide (c0 = 6) || okp) && okk) = false
    · have r : qEr none pl0 c0 ((!decide (c0 = 6) || okp) && okk) = some (5, pl0) := by unfold qEr; rw [if_pos bad.1, bad.2]; rfl
      rw [r]
      show G3 = some (5, pl0)
      have lo : qtm ev1 (5, pl0) = some (5, pl0) := by
        cases v1 : ev1 with
        | none => rfl
        | some g =>
          have c4 : 4 ≤ c1 := by
            by_cases c : 4 ≤ c1
            · exact c
            · have := h1 (by omega); rw [v1] at this; exact absurd this (by simp)
          have := (hp bad.1 c4).2.2 g v1
          show (if g.2 < pl0 ∨ (pl0 = g.2 ∧ g.1 ≤ 5) then some g else some (5, pl0)) = _
          rw [if_neg (by omega)]
      have g2 : G2 = some (5, pl0) := by
        rw [e2, e1]
        by_cases k1 : c0 = 6 ∧ okp = false
        · rw [if_pos (show c0 = 6 ∧ (none : Option (Nat × Nat)) = none ∧ okp = false from ⟨k1.1, rfl, k1.2⟩), lo, ts]; split <;> rfl
        · have : okk = false := by
            have b2 := bad.2
            cases hk : okk with
            | false => rfl
            | true =>
              rw [hk] at b2
              exfalso
              apply k1
              by_cases c6 : c0 = 6
              · refine ⟨c6, ?_⟩
                rw [decide_eq_true c6] at b2
                cases hp' : okp with
                | false => rfl
                | true => rw [hp'] at b2; exact absurd b2 (by decide)
              · rw [decide_eq_false c6] at b2; exact absurd b2 (by simp)
          rw [if_neg (show ¬ (c0 = 6 ∧ (none : Option (Nat × Nat)) = none ∧ okp = false) from fun h => k1 ⟨h.1, h.2.2⟩), if_pos ⟨bad.1, rfl, this⟩, lo]
      rw [e3, g2]
      split
      · rename_i h
        exact qtm_lt (hp bad.1 h.1).1
      · rfl
    · have n1 : ¬ (c0 = 6 ∧ (none : Option (Nat × Nat)) = none ∧ okp = false) := by
        intro h
        apply bad
        refine ⟨by omega, ?_⟩
        rw [decide_eq_true h.1, h.2.2]; rfl
      have n2 : ¬ (4 ≤ c0 ∧ (none : Option (Nat × Nat)) = none ∧ okk = false) := by
        intro h
        apply bad
        refine ⟨h.1, ?_⟩
        rw [h.2.2]; cases (!decide (c0 = 6) || okp) <;> rfl
      rw [if_neg n1] at e1
      rw [if_neg n2] at e2
      have r : qEr none pl0 c0 ((!decide (c0 = 6) || okp) && okk) = none := by
        unfold qEr
        by_cases c : 4 ≤ c0
        · rw [if_pos c]
          cases hb : ((!decide (c0 = 6) || okp) && okk) with
          | true => rfl
          | false => exact absurd ⟨c, hb⟩ bad
        · rw [if_neg c]
      rw [r, q0, e3, e2, e1]
      unfold qEr
      cases v1 : ev1 with
      | some g =>
        have c4 : 4 ≤ c1 := by
          by_cases c : 4 ≤ c1
          · exact c
          · have := h1 (by omega); rw [v1] at this; exact absurd this (by simp)
        rw [if_neg (fun h => absurd h.2.1 (by simp)), if_pos c4]; rfl
      | none =>
        by_cases c : 4 ≤ c1
        · rw [if_pos c, q0]
          cases ok1 with
          | true => rw [if_neg (fun h => absurd h.2.2 (by decide))]; rfl
          | false => rw [if_pos ⟨c, rfl, rfl⟩]; rfl
        · rw [if_neg (fun h => c h.1), if_neg c]
/-- a number as the word's part -/
def qU (v : Int32) : Nat := if 0 ≤ v ∧ v < 64 then v.toNatClampNeg else 64
theorem n_of {v : Int32} (h : 0 ≤ v) : Int32.ofNat v.toNatClampNeg = v := by
  apply Int32.toInt_inj.1
  have h0 : 0 ≤ v.toInt := Int32.le_iff_toInt_le.1 h
  have h1 := Int32.toInt_lt v
  have e : v.toNatClampNeg = v.toInt.toNat := rfl
  rw [e, Int32.toInt_ofNat_of_lt (by omega)]
  omega
theorem qU_e (v : Int32) (k : Nat) (hk : k < 64) : v = Int32.ofNat k ↔ qU v = k := by
  unfold qU
  constructor
  · intro h
    subst h
    have a1 : (0 : Int32) ≤ Int32.ofNat k := (p_leN 0 k (by omega) (by omega)).2 (by omega)
    have a2 : Int32.ofNat k < 64 := (p_ltN k 64 (by omega) (by omega)).2 hk
    rw [if_pos ⟨a1, a2⟩]; exact p_clN k (by omega)
  · intro h
    by_cases c : 0 ≤ v ∧ v < 64
    · rw [if_pos c] at h; rw [← h]; exact (n_of c.1).symm
    · rw [if_neg c] at h; omega
theorem qU_us {pk : Nat} (hpk : pk < 4) (h0 : pk ≠ 0) {v : Int32} (h : qRp pk v = true) : qU v ∈ e_us pk := by
  have k1 : ∀ k, k ≤ 7 → k ∈ e_us 1 := by decide
  have k2 : ∀ k, k ≤ 56 → (Int32.ofNat k &&& 7 = 0) → k ∈ e_us 2 := by decide +kernel
  have k3 : ∀ k, k ≤ 2 → k ∈ e_us 3 := by decide
  have rg : ∀ (b : Nat), b < 64 → qin v 0 (Int32.ofNat b) = true → ∃ k, k ≤ b ∧ v = Int32.ofNat k ∧ qU v = k := by
    intro b hb hq
    have hq := of_decide_eq_true hq
    have e := n_of hq.1
    have l : v.toNatClampNeg ≤ b := by
      have h0 : 0 ≤ v.toInt := Int32.le_iff_toInt_le.1 hq.1
      have h2 := Int32.le_iff_toInt_le.1 hq.2
      rw [Int32.toInt_ofNat_of_lt (by omega)] at h2
      show v.toInt.toNat ≤ b
      omega
    exact ⟨_, l, e.symm, (qU_e v _ (by omega)).1 e.symm⟩
  have pks : pk = 1 ∨ pk = 2 ∨ pk = 3 := by omega
  rcases pks with rfl | rfl | rfl
  · obtain ⟨k, a, _, b⟩ := rg 7 (by omega) h
    rw [b]; exact k1 k a
  · have h : (if ¬ v &&& 7 = 0 then false else qin v 0 56) = true := h
    by_cases c : v &&& 7 = 0
    · rw [if_neg (not_not_intro c)] at h
      obtain ⟨k, a, d, b⟩ := rg 56 (by omega) h
      rw [b]; rw [d] at c; exact k2 k a c
    · rw [if_pos c] at h; exact absurd h (by decide)
  · obtain ⟨k, a, _, b⟩ := rg 2 (by omega) h
    rw [b]; exact k3 k a
theorem e_pk4 (w : Nat) : e_pk w < 4 := by unfold e_pk; cases (Nat.ble 42 w && Nat.ble w 44) <;> cases Nat.beq w 34 <;> cases Nat.beq w 48 <;> decide
/-- two forms that the model encodes alike -/
theorem e_same {w c0 c1 : Nat} {f g : p_F} {s : fv_S} (a : eE w f s) (b : eE w g s) (a' : eG w c0 c1 f) (b' : eG w c0 c1 g) : (e_bk f.2.2.2.1 = e_bk g.2.2.2.1 ∧ (f.2.2.2.1 = 10 ↔ g.2.2.2.1 = 10)) ∧ (e_bk f.2.2.2.2.2.1 = e_bk g.2.2.2.2.2.1 ∧ (f.2.2.2.2.2.1 = 10 ↔ g.2.2.2.2.2.1 = 10)) := by
  have bk : ∀ k, e_bk k ≤ 3 := fun k => by unfold e_bk; cases (Nat.beq k 4 || Nat.beq k 8) <;> cases (Nat.beq k 5 || Nat.beq k 7) <;> cases Nat.beq k 6 <;> decide
  have b0 := bk f.2.2.2.1
  have b1 := bk f.2.2.2.2.2.1
  have b2 := bk g.2.2.2.1
  have b3 := bk g.2.2.2.2.2.1
  have s32 : e_bk f.2.2.2.1 + e_bk f.2.2.2.2.2.1 = e_bk g.2.2.2.1 + e_bk g.2.2.2.2.2.1 := (p_eqN _ _ (by omega) (by omega)).1 (a.2.2.1.symm.trans b.2.2.1)
  have s36 : (if f.2.2.2.1 = 10 then (0 : Int32) else if f.2.2.2.2.2.1 = 10 then 1 else -1) = (if g.2.2.2.1 = 10 then 0 else if g.2.2.2.2.2.1 = 10 then 1 else -1) := a.2.2.2.2.1.symm.trans b.2.2.2.2.1
  obtain ⟨a1, a2, a3, a4, a5, a6, a7, a8, a9, a10, a11, a12, a13⟩ := a'
  obtain ⟨d1, d2, d3, d4, d5, d6, d7, d8, d9, d10, d11, d12, d13⟩ := b'
  have k1 : e_bk f.2.2.2.1 = e_bk g.2.2.2.1 ∧ e_bk f.2.2.2.2.2.1 = e_bk g.2.2.2.2.2.1 := by
    by_cases c : c1 = 5 ∨ c1 = 6
    · have x1 := a8 c
      have x2 := d8 c
      have y1 : e_bk f.2.2.2.1 = 0 := by
        by_cases q : e_bk f.2.2.2.1 = 0
        · exact q
        · exact absurd (a6 q).2 x1
      have y2 : e_bk g.2.2.2.1 = 0 := by
        by_cases q : e_bk g.2.2.2.1 = 0
        · exact q
        · exact absurd (d6 q).2 x2
      omega
    · have x1 : e_bk f.2.2.2.2.2.1 = 0 := by
        by_cases q : e_bk f.2.2.2.2.2.1 = 0
        · exact q
        · exact absurd (a7 q) c
      have x2 : e_bk g.2.2.2.2.2.1 = 0 := by
        by_cases q : e_bk g.2.2.2.2.2.1 = 0
        · exact q
        · exact absurd (d7 q) c
      omega
  refine ⟨⟨k1.1, ?_⟩, k1.2, ?_⟩
  · by_cases p : f.2.2.2.1 = 10 <;> by_cases q : g.2.2.2.1 = 10
    · exact ⟨fun _ => q, fun _ => p⟩
    · rw [if_pos p, if_neg q] at s36; split at s36 <;> exact absurd s36 (by decide)
    · rw [if_neg p, if_pos q] at s36; split at s36 <;> exact absurd s36 (by decide)
    · exact ⟨fun h => absurd h p, fun h => absurd h q⟩
  · by_cases p : f.2.2.2.2.2.1 = 10 <;> by_cases q : g.2.2.2.2.2.1 = 10
    · exact ⟨fun _ => q, fun _ => p⟩
    · have : ¬ f.2.2.2.1 = 10 := fun h => (a4 h).2 p
      rw [if_neg this, if_pos p, if_neg q] at s36; split at s36 <;> exact absurd s36 (by decide)
    · have : ¬ g.2.2.2.1 = 10 := fun h => (d4 h).2 q
      rw [if_neg this, if_neg p, if_pos q] at s36; split at s36 <;> exact absurd s36 (by decide)
    · exact ⟨fun h => absurd h p, fun h => absurd h q⟩
theorem e_bke (k : Nat) : (e_bk k = 1 ↔ k = 4 ∨ k = 8) ∧ (e_bk k = 2 ↔ k = 5 ∨ k = 7) ∧ (e_bk k = 3 ↔ k = 6) ∧ (e_bk k = 0 ↔ ¬ (k = 4 ∨ k = 8 ∨ k = 5 ∨ k = 7 ∨ k = 6)) := by
  by_cases c : k < 9
  · have : ∀ k, k < 9 → (e_bk k = 1 ↔ k = 4 ∨ k = 8) ∧ (e_bk k = 2 ↔ k = 5 ∨ k = 7) ∧ (e_bk k = 3 ↔ k = 6) ∧ (e_bk k = 0 ↔ ¬ (k = 4 ∨ k = 8 ∨ k = 5 ∨ k = 7 ∨ k = 6)) := by decide
    exact this k c
  · have e : e_bk k = 0 := by unfold e_bk; rw [nb_f (show k ≠ 4 by omega), nb_f (show k ≠ 8 by omega), nb_f (show k ≠ 5 by omega), nb_f (show k ≠ 7 by omega), nb_f (show k ≠ 6 by omega)]; rfl
    rw [e]; omega
/-- a number's range, its octets: by what stands behind -/
theorem qRk_b {k k' : Nat} (h : e_bk k = e_bk k' ∧ (k = 10 ↔ k' = 10)) (v nx : Int32) : qRk k v nx = qRk k' v nx := by
  obtain ⟨a1, a2, a3, a4⟩ := e_bke k
  obtain ⟨b1, b2, b3, b4⟩ := e_bke k'
  unfold qRk
  have t1 : (k = 4 ∨ k = 8) ↔ (k' = 4 ∨ k' = 8) := by rw [← a1, ← b1, h.1]
  have t2 : (k = 5 ∨ k = 7) ↔ (k' = 5 ∨ k' = 7) := by rw [← a2, ← b2, h.1]
  have t3 : k = 6 ↔ k' = 6 := by rw [← a3, ← b3, h.1]
  simp only [t1, t2, t3, h.2]
theorem qol_c {k : Nat} {v v' nx : Int32} (h : e_bk k ≠ 0 → v = v') : qol k v nx = qol k v' nx := by
  by_cases c : e_bk k = 0
  · have := (e_bke k).2.2.2.1 c
    unfold qol
    rw [if_neg (by omega), if_neg (by omega), if_neg (by omega), if_neg (by omega), if_neg (by omega), if_neg (by omega)]
  · rw [h c]
theorem qIl_c {g : p_F} {iv v0 v1 v0' v1' nx : Int32} (h0 : e_bk g.2.2.2.1 ≠ 0 → v0 = v0') (h1 : e_bk g.2.2.2.2.2.1 ≠ 0 → v1 = v1') : qIl g iv v0 v1 nx = qIl g iv v0' v1' nx := by
  unfold qIl qi0 qi1 qi2
  rw [qol_c h0, qol_c h1]
theorem qol_l (k : Nat) (v nx : Int32) : (qol k v nx).length = e_bz (e_bk k) := by
  obtain ⟨a1, a2, a3, a4⟩ := e_bke k
  unfold qol
  by_cases c1 : k = 6
  · rw [if_pos c1, a3.2 c1]; rfl
  · rw [if_neg c1]
    by_cases c2 : k = 4 ∨ k = 8
    · rw [if_pos c2, a1.2 c2]; rfl
    · rw [if_neg c2]
      by_cases c3 : k = 5 ∨ k = 7
      · rw [if_pos c3, a2.2 c3]; rfl
      · rw [if_neg c3, a4.2 (by omega)]; rfl
theorem e_ixe (f : p_F) : e_ix f = decide (f.2.2.2.1 = 10 ∨ f.2.2.2.2.2.1 = 10) := by
  have h : e_ix f = true ↔ (f.2.2.2.1 = 10 ∨ f.2.2.2.2.2.1 = 10) := b_or nb_t nb_t
  cases hx : e_ix f with
  | true => exact (decide_eq_true (h.1 hx)).symm
  | false => exact (decide_eq_false (fun c => by rw [h.2 c] at hx; exact absurd hx (by decide))).symm
theorem e_szP (P : Nat) : (bif Nat.beq P 0 then 1 else bif Nat.ble 5 P then 3 else 2) = if P = 0 then 1 else if 5 ≤ P then 3 else 2 := by
  by_cases c : P = 0
  · rw [if_pos c, nb_t.2 c]; rfl
  · rw [if_neg c, nb_f c]
    by_cases d : 5 ≤ P
    · rw [if_pos d, show Nat.ble 5 P = true by rw [Nat.ble_eq]; exact d]; rfl
    · rw [if_neg d]
      have : Nat.ble 5 P = false := by
        cases hb : Nat.ble 5 P with
        | false => rfl
        | true => exact absurd (by rw [Nat.ble_eq] at hb; exact hb) d
      rw [this]; rfl
theorem qIl_len {g : p_F} (hP : g.1 ≤ 6) (h5 : 5 ≤ g.1 → g.2.2.2.1 = 10 ∨ g.2.2.2.2.2.1 = 10) (iv v0 v1 nx : Int32) : (qIl g iv v0 v1 nx).length = e_sz g := by
  unfold qIl qi0 qi1 qi2 e_sz
  rw [e_ixe, e_szP]
  simp only [List.length_append, qol_l]
  have P7 : g.1 = 0 ∨ g.1 = 1 ∨ g.1 = 2 ∨ g.1 = 3 ∨ g.1 = 4 ∨ g.1 = 5 ∨ g.1 = 6 := by omega
  by_cases cx : g.2.2.2.1 = 10 ∨ g.2.2.2.2.2.1 = 10
  · rw [decide_eq_true cx]
    simp only [cx, and_true]
    rcases P7 with e | e | e | e | e | e | e <;> rw [e] <;> simp <;> omega
  · rw [decide_eq_false cx]
    simp only [cx, and_false]
    have : ¬ 5 ≤ g.1 := fun h => cx (h5 h)
    rcases P7 with e | e | e | e | e | e | e <;> rw [e] at this ⊢ <;> simp at this ⊢ <;> omega
theorem p_szE {f : p_F} (hP : f.1 ≤ 6) : p_sz f = e_sz f := by
  have bh : ∀ k, p_bh k = e_bz (e_bk k) := by
    intro k
    rw [← qol_l k 0 0]
    unfold p_bh qol
    by_cases c1 : k = 6
    · rw [if_pos (by omega), if_pos c1]; rfl
    · rw [if_neg c1]
      by_cases c2 : k = 4 ∨ k = 8
      · rw [if_pos (by omega), if_pos c2]; rfl
      · rw [if_neg (by omega), if_neg c2]
        by_cases c3 : k = 5 ∨ k = 7
        · rw [if_pos c3, if_pos c3]; rfl
        · rw [if_neg c3, if_neg c3]; rfl
  unfold p_sz e_sz
  rw [bh, bh, e_ixe]
  have P7 : f.1 = 0 ∨ f.1 = 1 ∨ f.1 = 2 ∨ f.1 = 3 ∨ f.1 = 4 ∨ f.1 = 5 ∨ f.1 = 6 := by omega
  have t : (bif decide (f.2.2.2.1 = 10 ∨ f.2.2.2.2.2.1 = 10) then 1 else 0) = (if f.2.2.2.1 = 10 ∨ f.2.2.2.2.2.1 = 10 then 1 else 0) := by
    by_cases c : f.2.2.2.1 = 10 ∨ f.2.2.2.2.2.1 = 10
    · rw [if_pos c, decide_eq_true c]; rfl
    · rw [if_neg c, decide_eq_false c]; rfl
  rw [t]
  rcases P7 with e | e | e | e | e | e | e <;> rw [e] <;> rfl
theorem eFd_u (w c0 j0 c1 j1 u u' : Nat) : eFd w c0 j0 c1 j1 true u = eFd w c0 j0 c1 j1 true u' := by
  unfold eFd
  congr 1
/-- the form, whatever its number; the form with its number -/
noncomputable def qFo (B : Nat → Nat) (n w p : Nat) : Option p_F := eFd w (qd0 B n p).1 (qd0 B n p).2.1 (qd1 B n p).1 (qd1 B n p).2.1 true 0
noncomputable def qFg (B : Nat → Nat) (n w : Nat) (e : qEv) (p : Nat) : Option p_F := eFd w (qd0 B n p).1 (qd0 B n p).2.1 (qd1 B n p).1 (qd1 B n p).2.1 false (qU (qva B n e (qd0 B n p)))
/-- the fault of an instruction's numbers -/
noncomputable def qFi (B : Nat → Nat) (n w : Nat) (e : qEv) (p : Nat) (nx : Int32) (f : p_F) : Option (Nat × Nat) := qoe (qEr (qev B n e (qd0 B n p)) (qpl B n (qd0 B n p)) (qd0 B n p).1 (qo0 w f.2.2.2.1 (qd0 B n p).1 (qva B n e (qd0 B n p)) nx)) (qEr (qev B n e (qd1 B n p)) (qpl B n (qd1 B n p)) (qd1 B n p).1 (qRk f.2.2.2.2.2.1 (qva B n e (qd1 B n p)) nx))
/-- an instruction's octets in the second pass -/
noncomputable def qIo (B : Nat → Nat) (n w : Nat) (e : qEv) (p : Nat) (nx : Int32) : List Nat := match qFg B n w e p with
  | some g => qIl g (if g.2.2.2.1 = 10 then qva B n e (qd0 B n p) else qva B n e (qd1 B n p)) (qva B n e (qd0 B n p)) (qva B n e (qd1 B n p)) nx
  | none => []
/-- an instruction: its fault, its octets, its outcome -/
noncomputable def qIn (B : Nat → Nat) (n : Nat) (sec : Bool) (w q : Nat) (L : List (List Nat × Int32)) (org h p : Nat) : Option (Nat × Nat) × List Nat × qOu := match (qOm B n p).2 with
  | .inl f => (none, [], .inl f)
  | .inr p' => if (qT B n p').1 = 0 then (match qFo B n w p with
      | none => (some (6, q), [], .inr p')
      | some f => if sec = true then (if qFi B n w (qen L org) p (Int32.ofNat (h + e_sz f)) f = none then (none, qIo B n w (qen L org) p (Int32.ofNat (h + e_sz f)), .inr p') else (qFi B n w (qen L org) p (Int32.ofNat (h + e_sz f)) f, List.replicate (e_sz f) 0, .inr p')) else (none, List.replicate (e_sz f) 0, .inr p')) else (none, [], .inl (qwr (qT B n p'), (qT B n p').2.1))
theorem qIn_i {B : Nat → Nat} {n p w q org h : Nat} {sec : Bool} {L : List (List Nat × Int32)} {f : Nat × Nat} (ho : (qOm B n p).2 = .inl f) : qIn B n sec w q L org h p = (none, [], .inl f) := by unfold qIn; rw [ho]
theorem qIn_w {B : Nat → Nat} {n p w q org h p' : Nat} {sec : Bool} {L : List (List Nat × Int32)} (ho : (qOm B n p).2 = .inr p') (c : ¬ (qT B n p').1 = 0) : qIn B n sec w q L org h p = (none, [], .inl (qwr (qT B n p'), (qT B n p').2.1)) := by unfold qIn; rw [ho]; exact if_neg c
theorem qIn_n {B : Nat → Nat} {n p w q org h p' : Nat} {sec : Bool} {L : List (List Nat × Int32)} (ho : (qOm B n p).2 = .inr p') (c : (qT B n p').1 = 0) (hf : qFo B n w p = none) : qIn B n sec w q L org h p = (some (6, q), [], .inr p') := by
  unfold qIn; rw [ho, hf]; exact if_pos c
theorem qIn_1 {B : Nat → Nat} {n p w q org h p' : Nat} {sec : Bool} {L : List (List Nat × Int32)} {f : p_F} (ho : (qOm B n p).2 = .inr p') (c : (qT B n p').1 = 0) (hf : qFo B n w p = some f) (hs : sec = false) : qIn B n sec w q L org h p = (none, List.replicate (e_sz f) 0, .inr p') := by
  unfold qIn; rw [ho, hf]
  exact (if_pos c).trans (if_neg (by rw [hs]; decide))
theorem qIn_2 {B : Nat → Nat} {n p w q org h p' : Nat} {sec : Bool} {L : List (List Nat × Int32)} {f : p_F} (ho : (qOm B n p).2 = .inr p') (c : (qT B n p').1 = 0) (hf : qFo B n w p = some f) (hs : sec = true) (hg : qFi B n w (qen L org) p (Int32.ofNat (h + e_sz f)) f = none) : qIn B n sec w q L org h p = (none, qIo B n w (qen L org) p (Int32.ofNat (h + e_sz f)), .inr p') := by
  unfold qIn; rw [ho, hf]
  exact (if_pos c).trans ((if_pos hs).trans (if_pos hg))
theorem qIn_3 {B : Nat → Nat} {n p w q org h p' : Nat} {sec : Bool} {L : List (List Nat × Int32)} {f : p_F} (ho : (qOm B n p).2 = .inr p') (c : (qT B n p').1 = 0) (hf : qFo B n w p = some f) (hs : sec = true) (hg : qFi B n w (qen L org) p (Int32.ofNat (h + e_sz f)) f ≠ none) : qIn B n sec w q L org h p = (qFi B n w (qen L org) p (Int32.ofNat (h + e_sz f)) f, List.replicate (e_sz f) 0, .inr p') := by
  unfold qIn; rw [ho, hf]
  exact (if_pos c).trans ((if_pos hs).trans (if_neg hg))
/-- what stands behind an instruction's form -/
theorem qFg_f {B : Nat → Nat} {n w p : Nat} (hw : w < 67) {e : qEv} {f : p_F} {nx : Int32} (hf : qFo B n w p = some f) (hg : qFi B n w e p nx f = none) : ∃ g, qFg B n w e p = some g ∧ eG w (qd0 B n p).1 (qd1 B n p).1 g ∧ e_sz g = e_sz f ∧ (e_pk w = 0 ∨ qU (qva B n e (qd0 B n p)) ∈ e_us (e_pk w)) := by
  rcases e_sum hw (qd_D B n p) with ⟨s, _, q2⟩ | ⟨s, f', _, q2, q3, q4, q5⟩
  · unfold qFo at hf; rw [hf] at q2; exact absurd q2 (by simp)
  · unfold qFo at hf
    rw [hf] at q2
    have := Option.some.inj q2
    subst this
    have hu : e_pk w = 0 ∨ qU (qva B n e (qd0 B n p)) ∈ e_us (e_pk w) := by
      by_cases c : e_pk w = 0
      · exact Or.inl c
      · refine Or.inr (qU_us (e_pk4 w) c ?_)
        have c6 := (q4.1 c).1
        unfold qFi at hg
        have h1 : qEr (qev B n e (qd0 B n p)) (qpl B n (qd0 B n p)) (qd0 B n p).1 (qo0 w f.2.2.2.1 (qd0 B n p).1 (qva B n e (qd0 B n p)) nx) = none := by
          revert hg
          cases qEr (qev B n e (qd0 B n p)) (qpl B n (qd0 B n p)) (qd0 B n p).1 (qo0 w f.2.2.2.1 (qd0 B n p).1 (qva B n e (qd0 B n p)) nx) with
          | none => intro _; rfl
          | some x => intro h; exact absurd h (by unfold qoe; simp)
        unfold qEr at h1
        rw [if_pos (by omega)] at h1
        cases hr : qRp (e_pk w) (qva B n e (qd0 B n p)) with
        | true => rfl
        | false =>
          exfalso
          have : qo0 w f.2.2.2.1 (qd0 B n p).1 (qva B n e (qd0 B n p)) nx = false := by unfold qo0; rw [hr, decide_eq_true c6]; rfl
          rw [this] at h1
          cases hv : qev B n e (qd0 B n p) with
          | none => rw [hv] at h1; exact absurd h1 (by unfold qoe; simp)
          | some x => rw [hv] at h1; exact absurd h1 (by unfold qoe; simp)
    obtain ⟨g, g1, g2, g3, g4, g5⟩ := q5 _ hu
    exact ⟨g, g1, g3, g5, hu⟩
theorem qIo_len {B : Nat → Nat} {n w p : Nat} (hw : w < 67) {e : qEv} {f : p_F} {nx : Int32} (hf : qFo B n w p = some f) (hg : qFi B n w e p nx f = none) : (qIo B n w e p nx).length = e_sz f := by
  obtain ⟨g, g1, g2, g3, _⟩ := qFg_f hw hf hg
  unfold qIo
  rw [g1, ← g3]
  exact qIl_len g2.2.2.2.2.2.2.2.2.2.2.2.1 g2.2.2.2.2.2.2.2.2.2.2.1 _ _ _ _
