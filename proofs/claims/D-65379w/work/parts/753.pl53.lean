set_option maxRecDepth 100000
set_option maxHeartbeats 4000000
/-! The plain law: expressions, as they are read: their sense and their outcome. -/
abbrev qEv : Type := (List Nat → Option Int32) × Int32
abbrev qSm : Type := qEv → Option (Nat × Nat) × Int32
abbrev qOu : Type := (Nat × Nat) ⊕ Nat
/-- how strongly a sign binds -/
def qlv (k : Nat) : Nat := if k = 124 then 1 else if k = 94 then 2 else if k = 38 then 3 else if k = 4 then 4 else if k = 5 then 4 else if k = 43 then 5 else if k = 45 then 5 else if k = 42 then 6 else if k = 47 then 6 else 0
def qap (k : Nat) (a b : Int32) : Int32 := if k = 124 then a ||| b else if k = 94 then a ^^^ b else if k = 38 then a &&& b else if k = 4 then a <<< ((b &&& 31) &&& 31) else if k = 5 then a >>> ((b &&& 31) &&& 31) else if k = 43 then a + b else if k = 45 then a - b else if k = 42 then a * b else a / b
def qoe {α : Type} (a b : Option α) : Option α := match a with
  | some x => some x
  | none => b
def qcm (k q : Nat) (s1 s2 : qSm) : qSm := fun e => (qoe (s1 e).1 (qoe (s2 e).1 (if k = 47 ∧ (s2 e).2 = 0 then some (5, q) else none)), qap k (s1 e).2 (s2 e).2)
def qth (s1 s2 : qSm) : qSm := fun e => (qoe (s1 e).1 (s2 e).1, 0)
def qun (k : Nat) (s : qSm) : qSm := fun e => ((s e).1, if k = 45 then - (s e).2 else (s e).2 ^^^ (-1))
def qnv (l : List Nat) (q : Nat) : qSm := fun e => match e.1 l with
  | some v => (none, v)
  | none => (some (4, q), 0)
def qsz : qSm := fun _ => (none, 0)
/-- the rules by which an expression is read -/
def PsC (B : Nat → Nat) (n : Nat) (R : Option qSm → Nat → Nat → Nat → qSm → qOu → Prop) : Prop :=
  (∀ (d p : Nat) (h : (qT B n p).1 = 2), R none 7 d p (fun _ => (none, Int32.ofNat (qT B n p).2.2.2)) (.inr (qT B n p).2.2.1)) ∧
  (∀ (d p : Nat) (h : (qT B n p).1 = 64), R none 7 d p (fun e => (none, e.2)) (.inr (qT B n p).2.2.1)) ∧
  (∀ (d p : Nat) (h : (qT B n p).1 = 1) (h2 : qri (qna B (qT B n p)) = 99), R none 7 d p (qnv (qna B (qT B n p)) (qT B n p).2.1) (.inr (qT B n p).2.2.1)) ∧
  (∀ (d p : Nat) (h : (qT B n p).1 = 1) (h2 : qri (qna B (qT B n p)) < 99), R none 7 d p qsz (.inl (2, (qT B n p).2.1))) ∧
  (∀ (d p : Nat) (s : qSm) (o : qOu) (h : (qT B n p).1 = 45 ∨ (qT B n p).1 = 126) (hd : d < 40) (h2 : R none 7 (d + 1) (qT B n p).2.2.1 s o), R none 7 d p (qun (qT B n p).1 s) o) ∧
  (∀ (d p : Nat) (s : qSm) (f : Nat × Nat) (h : (qT B n p).1 = 40) (hd : d < 40) (h2 : R none 1 (d + 1) (qT B n p).2.2.1 s (.inl f)), R none 7 d p s (.inl f)) ∧
  (∀ (d p : Nat) (s : qSm) (p' : Nat) (h : (qT B n p).1 = 40) (hd : d < 40) (h2 : R none 1 (d + 1) (qT B n p).2.2.1 s (.inr p')) (h3 : (qT B n p').1 = 41), R none 7 d p s (.inr (qT B n p').2.2.1)) ∧
  (∀ (d p : Nat) (s : qSm) (p' : Nat) (h : (qT B n p).1 = 40) (hd : d < 40) (h2 : R none 1 (d + 1) (qT B n p).2.2.1 s (.inr p')) (h3 : (qT B n p').1 ≠ 41), R none 7 d p s (.inl (qwr (qT B n p'), (qT B n p').2.1))) ∧
  (∀ (d p : Nat) (h : (qT B n p).1 = 40 ∨ (qT B n p).1 = 45 ∨ (qT B n p).1 = 126) (hd : d = 40), R none 7 d p qsz (.inl (2, (qT B n p).2.1))) ∧
  (∀ (d p : Nat) (h : (qT B n p).1 ≠ 1 ∧ (qT B n p).1 ≠ 2 ∧ (qT B n p).1 ≠ 64 ∧ (qT B n p).1 ≠ 40 ∧ (qT B n p).1 ≠ 45 ∧ (qT B n p).1 ≠ 126), R none 7 d p qsz (.inl (qwr (qT B n p), (qT B n p).2.1))) ∧
  (∀ (l d p : Nat) (s : qSm) (f : Nat × Nat) (h1 : 1 ≤ l) (h6 : l ≤ 6) (h : R none (l + 1) d p s (.inl f)), R none l d p s (.inl f)) ∧
  (∀ (l d p : Nat) (s : qSm) (p' : Nat) (s' : qSm) (o : qOu) (h1 : 1 ≤ l) (h6 : l ≤ 6) (h : R none (l + 1) d p s (.inr p')) (h2 : R (some s) l d p' s' o), R none l d p s' o) ∧
  (∀ (s : qSm) (l d p : Nat) (h1 : 1 ≤ l) (h6 : l ≤ 6) (h : qlv (qT B n p).1 ≠ l), R (some s) l d p s (.inr p)) ∧
  (∀ (s : qSm) (l d p : Nat) (s2 : qSm) (f : Nat × Nat) (h1 : 1 ≤ l) (h6 : l ≤ 6) (h : qlv (qT B n p).1 = l) (h2 : R none (l + 1) d (qT B n p).2.2.1 s2 (.inl f)), R (some s) l d p (qth s s2) (.inl f)) ∧
  (∀ (s : qSm) (l d p : Nat) (s2 : qSm) (p' : Nat) (s' : qSm) (o : qOu) (h1 : 1 ≤ l) (h6 : l ≤ 6) (h : qlv (qT B n p).1 = l) (h2 : R none (l + 1) d (qT B n p).2.2.1 s2 (.inr p')) (h3 : R (some (qcm (qT B n p).1 (qT B n p).2.1 s s2)) l d p' s' o), R (some s) l d p s' o)
def Ps (B : Nat → Nat) (n : Nat) (a : Option qSm) (l d p : Nat) (s : qSm) (o : qOu) : Prop := ∀ R, PsC B n R → R a l d p s o
theorem Ps_num {B : Nat → Nat} {n : Nat} (d p : Nat) (h : (qT B n p).1 = 2) : Ps B n none 7 d p (fun _ => (none, Int32.ofNat (qT B n p).2.2.2)) (.inr (qT B n p).2.2.1) := fun R hR => hR.1 d p h
theorem Ps_org {B : Nat → Nat} {n : Nat} (d p : Nat) (h : (qT B n p).1 = 64) : Ps B n none 7 d p (fun e => (none, e.2)) (.inr (qT B n p).2.2.1) := fun R hR => hR.2.1 d p h
theorem Ps_nam {B : Nat → Nat} {n : Nat} (d p : Nat) (h : (qT B n p).1 = 1) (h2 : qri (qna B (qT B n p)) = 99) : Ps B n none 7 d p (qnv (qna B (qT B n p)) (qT B n p).2.1) (.inr (qT B n p).2.2.1) := fun R hR => hR.2.2.1 d p h h2
theorem Ps_res {B : Nat → Nat} {n : Nat} (d p : Nat) (h : (qT B n p).1 = 1) (h2 : qri (qna B (qT B n p)) < 99) : Ps B n none 7 d p qsz (.inl (2, (qT B n p).2.1)) := fun R hR => hR.2.2.2.1 d p h h2
theorem Ps_una {B : Nat → Nat} {n : Nat} (d p : Nat) (s : qSm) (o : qOu) (h : (qT B n p).1 = 45 ∨ (qT B n p).1 = 126) (hd : d < 40) (h2 : Ps B n none 7 (d + 1) (qT B n p).2.2.1 s o) : Ps B n none 7 d p (qun (qT B n p).1 s) o := fun R hR => hR.2.2.2.2.1 d p s o h hd (h2 R hR)
theorem Ps_brt {B : Nat → Nat} {n : Nat} (d p : Nat) (s : qSm) (f : Nat × Nat) (h : (qT B n p).1 = 40) (hd : d < 40) (h2 : Ps B n none 1 (d + 1) (qT B n p).2.2.1 s (.inl f)) : Ps B n none 7 d p s (.inl f) := fun R hR => hR.2.2.2.2.2.1 d p s f h hd (h2 R hR)
theorem Ps_bra {B : Nat → Nat} {n : Nat} (d p : Nat) (s : qSm) (p' : Nat) (h : (qT B n p).1 = 40) (hd : d < 40) (h2 : Ps B n none 1 (d + 1) (qT B n p).2.2.1 s (.inr p')) (h3 : (qT B n p').1 = 41) : Ps B n none 7 d p s (.inr (qT B n p').2.2.1) := fun R hR => hR.2.2.2.2.2.2.1 d p s p' h hd (h2 R hR) h3
theorem Ps_brw {B : Nat → Nat} {n : Nat} (d p : Nat) (s : qSm) (p' : Nat) (h : (qT B n p).1 = 40) (hd : d < 40) (h2 : Ps B n none 1 (d + 1) (qT B n p).2.2.1 s (.inr p')) (h3 : (qT B n p').1 ≠ 41) : Ps B n none 7 d p s (.inl (qwr (qT B n p'), (qT B n p').2.1)) := fun R hR => hR.2.2.2.2.2.2.2.1 d p s p' h hd (h2 R hR) h3
theorem Ps_dep {B : Nat → Nat} {n : Nat} (d p : Nat) (h : (qT B n p).1 = 40 ∨ (qT B n p).1 = 45 ∨ (qT B n p).1 = 126) (hd : d = 40) : Ps B n none 7 d p qsz (.inl (2, (qT B n p).2.1)) := fun R hR => hR.2.2.2.2.2.2.2.2.1 d p h hd
theorem Ps_bad {B : Nat → Nat} {n : Nat} (d p : Nat) (h : (qT B n p).1 ≠ 1 ∧ (qT B n p).1 ≠ 2 ∧ (qT B n p).1 ≠ 64 ∧ (qT B n p).1 ≠ 40 ∧ (qT B n p).1 ≠ 45 ∧ (qT B n p).1 ≠ 126) : Ps B n none 7 d p qsz (.inl (qwr (qT B n p), (qT B n p).2.1)) := fun R hR => hR.2.2.2.2.2.2.2.2.2.1 d p h
theorem Ps_lvt {B : Nat → Nat} {n : Nat} (l d p : Nat) (s : qSm) (f : Nat × Nat) (h1 : 1 ≤ l) (h6 : l ≤ 6) (h : Ps B n none (l + 1) d p s (.inl f)) : Ps B n none l d p s (.inl f) := fun R hR => hR.2.2.2.2.2.2.2.2.2.2.1 l d p s f h1 h6 (h R hR)
theorem Ps_lv {B : Nat → Nat} {n : Nat} (l d p : Nat) (s : qSm) (p' : Nat) (s' : qSm) (o : qOu) (h1 : 1 ≤ l) (h6 : l ≤ 6) (h : Ps B n none (l + 1) d p s (.inr p')) (h2 : Ps B n (some s) l d p' s' o) : Ps B n none l d p s' o := fun R hR => hR.2.2.2.2.2.2.2.2.2.2.2.1 l d p s p' s' o h1 h6 (h R hR) (h2 R hR)
theorem Ps_stop {B : Nat → Nat} {n : Nat} (s : qSm) (l d p : Nat) (h1 : 1 ≤ l) (h6 : l ≤ 6) (h : qlv (qT B n p).1 ≠ l) : Ps B n (some s) l d p s (.inr p) := fun R hR => hR.2.2.2.2.2.2.2.2.2.2.2.2.1 s l d p h1 h6 h
theorem Ps_opt {B : Nat → Nat} {n : Nat} (s : qSm) (l d p : Nat) (s2 : qSm) (f : Nat × Nat) (h1 : 1 ≤ l) (h6 : l ≤ 6) (h : qlv (qT B n p).1 = l) (h2 : Ps B n none (l + 1) d (qT B n p).2.2.1 s2 (.inl f)) : Ps B n (some s) l d p (qth s s2) (.inl f) := fun R hR => hR.2.2.2.2.2.2.2.2.2.2.2.2.2.1 s l d p s2 f h1 h6 h (h2 R hR)
theorem Ps_op {B : Nat → Nat} {n : Nat} (s : qSm) (l d p : Nat) (s2 : qSm) (p' : Nat) (s' : qSm) (o : qOu) (h1 : 1 ≤ l) (h6 : l ≤ 6) (h : qlv (qT B n p).1 = l) (h2 : Ps B n none (l + 1) d (qT B n p).2.2.1 s2 (.inr p')) (h3 : Ps B n (some (qcm (qT B n p).1 (qT B n p).2.1 s s2)) l d p' s' o) : Ps B n (some s) l d p s' o := fun R hR => hR.2.2.2.2.2.2.2.2.2.2.2.2.2.2 s l d p s2 p' s' o h1 h6 h (h2 R hR) (h3 R hR)
theorem qlv_k {k : Nat} (h : 1 ≤ qlv k) : k ≠ 0 ∧ k ≠ 6 ∧ k ≠ 1 ∧ k ≠ 2 ∧ k ≠ 3 ∧ k ≠ 40 ∧ k ≠ 41 ∧ k ≠ 44 ∧ k ≠ 64 ∧ k ≠ 126 := by
  unfold qlv at h
  refine ⟨?_, ?_, ?_, ?_, ?_, ?_, ?_, ?_, ?_, ?_⟩ <;> (intro e; subst e; simp at h)
/-- where an expression ends -/
theorem Ps_lt {B : Nat → Nat} {n : Nat} (hS : qS B n) {a : Option qSm} {l d p : Nat} {s : qSm} {o : qOu} (h : Ps B n a l d p s o) : p ≤ n → ∀ p', o = .inr p' → p' ≤ n ∧ p ≤ p' ∧ (a = none → p < p') := by
  have tk : ∀ p, p ≤ n → (qT B n p).1 ≠ 0 → (qT B n p).1 ≠ 6 → p < (qT B n p).2.2.1 ∧ (qT B n p).2.2.1 ≤ n := by
    intro p hp h0 h6
    have hb := qT_b hS p hp
    have := hb.2.2.2.1 h0 h6
    exact ⟨by have := hb.1; omega, hb.2.2.1⟩
  refine h (fun a l d p s o => p ≤ n → ∀ p', o = .inr p' → p' ≤ n ∧ p ≤ p' ∧ (a = none → p < p')) ⟨?_, ?_, ?_, ?_, ?_, ?_, ?_, ?_, ?_, ?_, ?_, ?_, ?_, ?_, ?_⟩
  · intro d p h
    intro hp p' e; have := tk p hp (by omega) (by omega); have := Sum.inr.inj e; omega
  · intro d p h
    intro hp p' e; have := tk p hp (by omega) (by omega); have := Sum.inr.inj e; omega
  · intro d p h h2
    intro hp p' e; have := tk p hp (by omega) (by omega); have := Sum.inr.inj e; omega
  · intro d p h h2
    intro hp p' e; exact absurd e (by simp)
  · intro d p s o h hd ih
    intro hp p' e; have := tk p hp (by omega) (by omega); have := ih (by omega) p' e; omega
  · intro d p s f h hd ih
    intro hp p' e; exact absurd e (by simp)
  · intro d p s p1 h hd ih h3
    intro hp p' e
    have := tk p hp (by omega) (by omega)
    have := ih (by omega) p1 rfl
    have := tk p1 (by omega) (by omega) (by omega)
    have := Sum.inr.inj e
    omega
  · intro d p s p1 h hd ih h3
    intro hp p' e; exact absurd e (by simp)
  · intro d p h hd
    intro hp p' e; exact absurd e (by simp)
  · intro d p h
    intro hp p' e; exact absurd e (by simp)
  · intro l d p s f h1 h6 ih
    intro hp p' e; exact absurd e (by simp)
  · intro l d p s p1 s' o h1 h6 ih ih2
    intro hp p' e
    have := (ih hp p1 rfl)
    have h3 := this.2.2 rfl
    have := ih2 (by omega) p' e
    exact ⟨by omega, by omega, fun _ => by omega⟩
  · intro s l d p h1 h6 h
    intro hp p' e; have := Sum.inr.inj e; exact ⟨by omega, by omega, fun e => absurd e (by simp)⟩
  · intro s l d p s2 f h1 h6 h ih
    intro hp p' e; exact absurd e (by simp)
  · intro s l d p s2 p1 s' o h1 h6 h ih ih2
    intro hp p' e
    have hk := qlv_k (k := (qT B n p).1) (by omega)
    have := tk p hp hk.1 hk.2.1
    have := ih (by omega) p1 rfl
    have := ih2 (by omega) p' e
    exact ⟨by omega, by omega, fun e => absurd e (by simp)⟩
/-- there is always an outcome -/
theorem Ps_ex {B : Nat → Nat} {n : Nat} (hS : qS B n) : ∀ (D l d p : Nat), 1 ≤ l → l ≤ 7 → d ≤ 40 → p ≤ n → n - p ≤ D → ∃ s o, Ps B n none l d p s o := by
  have tk : ∀ p, p ≤ n → (qT B n p).1 ≠ 0 → (qT B n p).1 ≠ 6 → p < (qT B n p).2.2.1 ∧ (qT B n p).2.2.1 ≤ n := by
    intro p hp h0 h6
    have hb := qT_b hS p hp
    have := hb.2.2.2.1 h0 h6
    exact ⟨by have := hb.1; omega, hb.2.2.1⟩
  intro D
  induction D using Nat.strongRecOn with
  | _ D ih =>
    -- level 7
    have l7 : ∀ d p, d ≤ 40 → p ≤ n → n - p ≤ D → ∃ s o, Ps B n none 7 d p s o := by
      intro d p hd hp hD
      by_cases c2 : (qT B n p).1 = 2
      · exact ⟨_, _, Ps_num d p c2⟩
      by_cases c64 : (qT B n p).1 = 64
      · exact ⟨_, _, Ps_org d p c64⟩
      by_cases c1 : (qT B n p).1 = 1
      · by_cases c : qri (qna B (qT B n p)) < 99
        · exact ⟨_, _, Ps_res d p c1 c⟩
        · exact ⟨_, _, Ps_nam d p c1 (by have := qri_le (qna B (qT B n p)); omega)⟩
      by_cases c3 : (qT B n p).1 = 40 ∨ (qT B n p).1 = 45 ∨ (qT B n p).1 = 126
      · by_cases cd : d < 40
        · have := tk p hp (by omega) (by omega)
          by_cases c40 : (qT B n p).1 = 40
          · obtain ⟨s, o, h⟩ := ih (n - (qT B n p).2.2.1) (by omega) 1 (d + 1) (qT B n p).2.2.1 (by omega) (by omega) (by omega) this.2 (Nat.le_refl _)
            cases o with
            | inl f => exact ⟨_, _, Ps_brt d p s f c40 cd h⟩
            | inr p' =>
              by_cases c41 : (qT B n p').1 = 41
              · exact ⟨_, _, Ps_bra d p s p' c40 cd h c41⟩
              · exact ⟨_, _, Ps_brw d p s p' c40 cd h c41⟩
          · obtain ⟨s, o, h⟩ := ih (n - (qT B n p).2.2.1) (by omega) 7 (d + 1) (qT B n p).2.2.1 (by omega) (by omega) (by omega) this.2 (Nat.le_refl _)
            exact ⟨_, _, Ps_una d p s o (by omega) cd h⟩
        · exact ⟨_, _, Ps_dep d p c3 (by omega)⟩
      · exact ⟨_, _, Ps_bad d p (by omega)⟩
    -- loops further on
    have lp : ∀ (E l d p : Nat) (s : qSm), 1 ≤ l → l ≤ 6 → d ≤ 40 → p ≤ n → n - p ≤ E → E < D → ∃ s' o, Ps B n (some s) l d p s' o := by
      intro E
      induction E using Nat.strongRecOn with
      | _ E ihE =>
        intro l d p s h1 h6 hd hp hE hED
        by_cases c : qlv (qT B n p).1 = l
        · have hk := qlv_k (k := (qT B n p).1) (by omega)
          have t := tk p hp hk.1 hk.2.1
          obtain ⟨s2, o, h⟩ := ih (n - (qT B n p).2.2.1) (by omega) (l + 1) d (qT B n p).2.2.1 (by omega) (by omega) hd t.2 (Nat.le_refl _)
          cases o with
          | inl f => exact ⟨_, _, Ps_opt s l d p s2 f h1 h6 c h⟩
          | inr p' =>
            have := Ps_lt hS h t.2 p' rfl
            obtain ⟨s', o, h'⟩ := ihE (n - p') (by omega) l d p' (qcm (qT B n p).1 (qT B n p).2.1 s s2) h1 h6 hd this.1 (Nat.le_refl _) (by omega)
            exact ⟨s', o, Ps_op s l d p s2 p' s' o h1 h6 c h h'⟩
        · exact ⟨_, _, Ps_stop s l d p h1 h6 c⟩
    -- levels, from 7 down
    have lv : ∀ (k l d p : Nat), 7 - l = k → 1 ≤ l → l ≤ 7 → d ≤ 40 → p ≤ n → n - p ≤ D → ∃ s o, Ps B n none l d p s o := by
      intro k
      induction k with
      | zero => intro l d p hk h1 h7 hd hp hD; have : l = 7 := by omega
                subst this; exact l7 d p hd hp hD
      | succ k ihk =>
        intro l d p hk h1 h7 hd hp hD
        obtain ⟨s, o, h⟩ := ihk (l + 1) d p (by omega) (by omega) (by omega) hd hp hD
        cases o with
        | inl f => exact ⟨_, _, Ps_lvt l d p s f h1 (by omega) h⟩
        | inr p' =>
          have := Ps_lt hS h hp p' rfl
          have h3 := this.2.2 rfl
          obtain ⟨s', o, h'⟩ := lp (n - p') l d p' s h1 (by omega) hd this.1 (Nat.le_refl _) (by omega)
          exact ⟨s', o, Ps_lv l d p s p' s' o h1 (by omega) h h'⟩
    intro l d p h1 h7 hd hp hD
    exact lv (7 - l) l d p rfl h1 h7 hd hp hD
