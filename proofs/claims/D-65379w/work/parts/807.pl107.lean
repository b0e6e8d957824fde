set_option maxRecDepth 100000
set_option maxHeartbeats 4000000
/-! The plain law: a pass, what it comes to; the class's pass. -/
abbrev qPr : Type := (Nat × Nat × Nat) ⊕ (Nat × List (List Nat × Int32) × Nat × qMem)
def qou (o : qOu) : Nat := match o with
  | .inr p' => p'
  | .inl _ => 0
def qnx (n e : Nat) : Nat := if e < n then e + 1 else n
/-- a pass from line ln on -/
noncomputable def qPs (B : Nat → Nat) (n : Nat) (sec : Bool) : Nat → Nat → Nat → List (List Nat × Int32) → Nat → List (Bool × Bool) → qMem → qPr
  | 0, _, _, _, _, _, _ => .inl (0, 0, 0)
  | f + 1, ln, p, L, h, I, M =>
    if n ≤ p then (if I.length = 0 then .inr (ln, L, h, M) else .inl (ln, 7, n))
    else if ln + 1 ≤ 300 then
      (if qid I = true then
        (match qLfa B n sec L h h I M p with
        | some g => .inl (ln + 1, g.1, g.2)
        | none => qPs B n sec f (ln + 1) (qnx n (qT B n (qou (qLn B n sec L h h I M p).2.1)).2.1) (qLn B n sec L h h I M p).2.2.1 (qLn B n sec L h h I M p).2.2.2.1 (qLn B n sec L h h I M p).2.2.2.2.1 (qLn B n sec L h h I M p).2.2.2.2.2)
      else
        (match qsky I (qskw B n p) with
        | .inl g => .inl (ln + 1, g.1, g.2)
        | .inr I' => qPs B n sec f (ln + 1) (qnx n (qeol B n p)) L h I' M))
    else .inl (ln + 1, 9, p)
theorem qPs_e {B : Nat → Nat} {n : Nat} {sec : Bool} {f ln p : Nat} {L : List (List Nat × Int32)} {h : Nat} {I : List (Bool × Bool)} {M : qMem} (c : n ≤ p) : qPs B n sec (f + 1) ln p L h I M = if I.length = 0 then .inr (ln, L, h, M) else .inl (ln, 7, n) := if_pos c
theorem qPs_9 {B : Nat → Nat} {n : Nat} {sec : Bool} {f ln p : Nat} {L : List (List Nat × Int32)} {h : Nat} {I : List (Bool × Bool)} {M : qMem} (c : ¬ n ≤ p) (d : ¬ ln + 1 ≤ 300) : qPs B n sec (f + 1) ln p L h I M = .inl (ln + 1, 9, p) := (if_neg c).trans (if_neg d)
theorem qPs_lf {B : Nat → Nat} {n : Nat} {sec : Bool} {f ln p : Nat} {L : List (List Nat × Int32)} {h : Nat} {I : List (Bool × Bool)} {M : qMem} (c : ¬ n ≤ p) (d : ln + 1 ≤ 300) (e : qid I = true) {g : Nat × Nat} (hg : qLfa B n sec L h h I M p = some g) : qPs B n sec (f + 1) ln p L h I M = .inl (ln + 1, g.1, g.2) := by
  refine (if_neg c).trans ((if_pos d).trans ((if_pos e).trans ?_))
  rw [hg]
theorem qPs_ln {B : Nat → Nat} {n : Nat} {sec : Bool} {f ln p : Nat} {L : List (List Nat × Int32)} {h : Nat} {I : List (Bool × Bool)} {M : qMem} (c : ¬ n ≤ p) (d : ln + 1 ≤ 300) (e : qid I = true) (hg : qLfa B n sec L h h I M p = none) : qPs B n sec (f + 1) ln p L h I M = qPs B n sec f (ln + 1) (qnx n (qT B n (qou (qLn B n sec L h h I M p).2.1)).2.1) (qLn B n sec L h h I M p).2.2.1 (qLn B n sec L h h I M p).2.2.2.1 (qLn B n sec L h h I M p).2.2.2.2.1 (qLn B n sec L h h I M p).2.2.2.2.2 := by
  refine (if_neg c).trans ((if_pos d).trans ((if_pos e).trans ?_))
  rw [hg]
theorem qPs_sf {B : Nat → Nat} {n : Nat} {sec : Bool} {f ln p : Nat} {L : List (List Nat × Int32)} {h : Nat} {I : List (Bool × Bool)} {M : qMem} (c : ¬ n ≤ p) (d : ln + 1 ≤ 300) (e : qid I = false) {g : Nat × Nat} (hg : qsky I (qskw B n p) = .inl g) : qPs B n sec (f + 1) ln p L h I M = .inl (ln + 1, g.1, g.2) := by
  refine (if_neg c).trans ((if_pos d).trans ((if_neg (by rw [e]; decide)).trans ?_))
  rw [hg]
theorem qPs_sk {B : Nat → Nat} {n : Nat} {sec : Bool} {f ln p : Nat} {L : List (List Nat × Int32)} {h : Nat} {I I' : List (Bool × Bool)} {M : qMem} (c : ¬ n ≤ p) (d : ln + 1 ≤ 300) (e : qid I = false) (hg : qsky I (qskw B n p) = .inr I') : qPs B n sec (f + 1) ln p L h I M = qPs B n sec f (ln + 1) (qnx n (qeol B n p)) L h I' M := by
  refine (if_neg c).trans ((if_pos d).trans ((if_neg (by rw [e]; decide)).trans ?_))
  rw [hg]
theorem q_sz20 (f : p_F) : e_sz f ≤ 20 := by
  have bk : ∀ k, e_bk k ≤ 3 := fun k => by unfold e_bk; cases (Nat.beq k 4 || Nat.beq k 8) <;> cases (Nat.beq k 5 || Nat.beq k 7) <;> cases Nat.beq k 6 <;> decide
  have bz : ∀ b, b ≤ 3 → e_bz b ≤ 3 := by decide
  have := bz _ (bk f.2.2.2.1)
  have := bz _ (bk f.2.2.2.2.2.1)
  unfold e_sz
  have a1 : (bif Nat.beq f.1 0 then 1 else bif Nat.ble 5 f.1 then 3 else 2) ≤ 3 := by cases Nat.beq f.1 0 <;> cases Nat.ble 5 f.1 <;> decide
  have a2 : (bif e_ix f then 1 else 0) ≤ 1 := by cases e_ix f <;> decide
  omega
theorem q_in20 {B : Nat → Nat} {n w q p : Nat} (hw : w < 67) {sec : Bool} {L : List (List Nat × Int32)} {org h : Nat} : (qIn B n sec w q L org h p).2.1.length ≤ 20 := by
  cases hm : (qOm B n p).2 with
  | inl f => rw [qIn_i hm]; exact Nat.zero_le _
  | inr p1 =>
    by_cases c0 : (qT B n p1).1 = 0
    · cases hf : qFo B n w p with
      | none => rw [qIn_n hm c0 hf]; exact Nat.zero_le _
      | some f =>
        have := q_sz20 f
        by_cases hs : sec = true
        · by_cases hg : qFi B n w (qen L org) p (Int32.ofNat (h + e_sz f)) f = none
          · rw [qIn_2 hm c0 hf hs hg]; show (qIo B n w (qen L org) p (Int32.ofNat (h + e_sz f))).length ≤ 20; rw [qIo_len hw hf hg]; exact this
          · rw [qIn_3 hm c0 hf hs hg]; show (List.replicate (e_sz f) 0).length ≤ 20; rw [List.length_replicate]; exact this
        · rw [qIn_1 hm c0 hf (by cases hx : sec; rfl; exact absurd hx hs)]; show (List.replicate (e_sz f) 0).length ≤ 20; rw [List.length_replicate]; exact this
    · rw [qIn_w hm c0]; exact Nat.zero_le _
theorem q_sp16 {B : Nat → Nat} {n p : Nat} {sec : Bool} {L : List (List Nat × Int32)} {org : Nat} : (qSp B n sec L org p).2.1.length ≤ 65535 := by
  cases hx : (qEX B n p).2 with
  | inl f => rw [qSp_i hx]; exact Nat.zero_le _
  | inr p1 =>
    cases hg : qS1 B n L org p with
    | some g => rw [qSp_g hx hg]; exact Nat.zero_le _
    | none =>
      obtain ⟨g1, g2⟩ := qS1_n hx hg
      obtain ⟨m, m1, m2, m3, m4⟩ := qin_16 g2
      by_cases c44 : (qT B n p1).1 = 44
      · rw [qSp_c hx hg c44]
        show (List.replicate ((qEX B n p).1 (qen L org)).2.toNatClampNeg _).length ≤ 65535
        rw [List.length_replicate, m4]; exact m1
      · rw [qSp_e hx hg c44]
        show (List.replicate ((qEX B n p).1 (qen L org)).2.toNatClampNeg _).length ≤ 65535
        rw [List.length_replicate, m4]; exact m1
theorem q_tuI (els : Bool) (I : List (Bool × Bool)) (q : Nat) (h : I.length ≤ 8) : ∀ I', qtu els I q = .inr I' → I'.length ≤ 8 := by
  intro I' hI
  cases I with
  | nil => exact absurd hI (by simp [qtu])
  | cons x I =>
    have h : I.length + 1 ≤ 8 := h
    have hI : (if els = true then (if x.2 = true then (.inl (7, q) : (Nat × Nat) ⊕ List (Bool × Bool)) else .inr ((!x.1, true) :: I)) else .inr I) = .inr I' := hI
    split at hI
    · split at hI
      · exact absurd hI (by simp)
      · have := Sum.inr.inj hI; rw [← this]; exact h
    · have := Sum.inr.inj hI; rw [← this]; omega
/-- bounds behind a statement -/
theorem q_swb {B : Nat → Nat} {n w q p : Nat} (hS : qS B n) (hp : p ≤ n) {sec : Bool} {L : List (List Nat × Int32)} {org h : Nat} {I : List (Bool × Bool)} {M : qMem} (h6 : h ≤ 65536) (hI : I.length ≤ 8) : (qSw B n sec w q L org h I M p).2.2.2.1 < 2147483648 ∧ (∀ p', (qSw B n sec w q L org h I M p).2.1 = .inr p' → (qSw B n sec w q L org h I M p).2.2.2.2.1.length ≤ 8) ∧ ((qSw B n sec w q L org h I M p).2.2.2.1 ≤ 65536 → (qSw B n sec w q L org h I M p).2.2.2.2.2.2.1 ≤ M.2.1 + 65536) := by
  unfold qSw
  by_cases c67 : w < 67
  · rw [if_pos c67]
    have := q_in20 (B := B) (n := n) (q := q) (p := p) c67 (sec := sec) (L := L) (org := org) (h := h)
    refine ⟨by show h + (qIn B n sec w q L org h p).2.1.length < 2147483648; omega, fun _ _ => hI, fun hl => ?_⟩
    show (qlm (qIn B n sec w q L org h p).2.1 M h).2.1 ≤ _
    rw [qlm_c]; omega
  rw [if_neg c67]
  by_cases d67 : w = 67
  · rw [if_pos d67]
    refine ⟨by show min 65536 ((qEX B n p).1 (qen L org)).2.toNatClampNeg < 2147483648; omega, fun _ _ => hI, fun _ => by show M.2.1 ≤ M.2.1 + 65536; omega⟩
  rw [if_neg d67]
  by_cases d69 : w = 69 ∨ w = 70
  · rw [if_pos d69]
    have := q_dal hS (sec := sec) (wide := decide (w = 70)) (L := L) (org := org) 6002 p hp
    refine ⟨by show h + (qDa B n sec (decide (w = 70)) L org 6002 p).2.1.length < 2147483648; omega, fun _ _ => hI, fun hl => ?_⟩
    have hl : h + (qDa B n sec (decide (w = 70)) L org 6002 p).2.1.length ≤ 65536 := hl
    show (qlm (qDa B n sec (decide (w = 70)) L org 6002 p).2.1 M h).2.1 ≤ _
    rw [qlm_c]; omega
  rw [if_neg d69]
  by_cases d71 : w = 71
  · rw [if_pos d71]
    have := q_sp16 (B := B) (n := n) (p := p) (sec := sec) (L := L) (org := org)
    refine ⟨by show h + (qSp B n sec L org p).2.1.length < 2147483648; omega, fun _ _ => hI, fun hl => ?_⟩
    show (qlm (qSp B n sec L org p).2.1 M h).2.1 ≤ _
    rw [qlm_c]; omega
  rw [if_neg d71]
  by_cases d72 : w = 72
  · rw [if_pos d72]
    refine ⟨by show h < 2147483648; omega, fun p' ho => ?_, fun _ => by show M.2.1 ≤ M.2.1 + 65536; omega⟩
    have ho : qIfO B n p I q = .inr p' := ho
    unfold qIfO at ho
    by_cases c8 : I.length = 8
    · rw [if_pos c8] at ho; exact absurd ho (by simp)
    · show I.length + 1 ≤ 8; omega
  rw [if_neg d72]
  by_cases d73 : w = 73 ∨ w = 74
  · rw [if_pos d73]
    refine ⟨by show h < 2147483648; omega, fun p' ho => ?_, fun _ => by show M.2.1 ≤ M.2.1 + 65536; omega⟩
    have ho : qTuO (decide (w = 73)) I q p = .inr p' := ho
    show (qTuI (decide (w = 73)) I q).length ≤ 8
    unfold qTuO at ho
    unfold qTuI
    cases hu : qtu (decide (w = 73)) I q with
    | inl f => rw [hu] at ho; exact absurd ho (by simp)
    | inr I' => exact q_tuI _ _ _ hI I' hu
  · rw [if_neg d73]
    exact ⟨by show h < 2147483648; omega, fun _ _ => hI, fun _ => by show M.2.1 ≤ M.2.1 + 65536; omega⟩
theorem q_sgb {B : Nat → Nat} {n p : Nat} (hS : qS B n) (hp : p ≤ n) {sec : Bool} {L : List (List Nat × Int32)} {org h : Nat} {I : List (Bool × Bool)} {M : qMem} (h6 : h ≤ 65536) (hI : I.length ≤ 8) : (qSg B n sec L org h I M p).2.2.2.1 < 2147483648 ∧ (∀ p', (qSg B n sec L org h I M p).2.1 = .inr p' → (qSg B n sec L org h I M p).2.2.2.2.1.length ≤ 8) ∧ ((qSg B n sec L org h I M p).2.2.2.1 ≤ 65536 → (qSg B n sec L org h I M p).2.2.2.2.2.2.1 ≤ M.2.1 + 65536) := by
  have pl : (h : Nat) < 2147483648 ∧ (∀ p' : Nat, True → I.length ≤ 8) ∧ (h ≤ 65536 → M.2.1 ≤ M.2.1 + 65536) := ⟨by omega, fun _ _ => hI, fun _ => by omega⟩
  unfold qSg
  split
  · exact ⟨pl.1, fun _ _ => hI, pl.2.2⟩
  · split
    · split
      · exact ⟨pl.1, fun _ _ => hI, pl.2.2⟩
      · exact q_swb hS (qT_b hS p hp).2.2.1 h6 hI
    · exact ⟨pl.1, fun _ _ => hI, pl.2.2⟩
theorem q_lnb {B : Nat → Nat} {n p : Nat} (hS : qS B n) (hp : p ≤ n) {sec : Bool} {L : List (List Nat × Int32)} {org h : Nat} {I : List (Bool × Bool)} {M : qMem} (h6 : h ≤ 65536) (hI : I.length ≤ 8) : (qLn B n sec L org h I M p).2.2.2.1 < 2147483648 ∧ (∀ p', (qLn B n sec L org h I M p).2.1 = .inr p' → (qLn B n sec L org h I M p).2.2.2.2.1.length ≤ 8) ∧ ((qLn B n sec L org h I M p).2.2.2.1 ≤ 65536 → (qLn B n sec L org h I M p).2.2.2.2.2.2.1 ≤ M.2.1 + 65536) := by
  unfold qLn
  split
  · split
    · exact ⟨by show h < 2147483648; omega, fun _ _ => hI, fun _ => by show M.2.1 ≤ M.2.1 + 65536; omega⟩
    · exact q_sgb hS (qT_b hS _ (qT_b hS p hp).2.2.1).2.2.1 h6 hI
  · exact q_sgb hS hp h6 hI
theorem q_skI {I I' : List (Bool × Bool)} {w : Nat × Nat} (hI : I.length ≤ 8) (h : qsky I w = .inr I') : I'.length ≤ 8 := by
  unfold qsky at h
  split at h
  · split at h
    · exact absurd h (by simp)
    · have := Sum.inr.inj h; rw [← this]; show I.length + 1 ≤ 8; omega
  · split at h
    · exact q_tuI _ _ _ hI I' h
    · have := Sum.inr.inj h; rw [← this]; exact hI
/-- names told stay in front -/
theorem qPs_L {B : Nat → Nat} {n : Nat} (hS : qS B n) : ∀ (f ln p : Nat) (L : List (List Nat × Int32)) (h : Nat) (I : List (Bool × Bool)) (M : qMem) (r : Nat × List (List Nat × Int32) × Nat × qMem), p ≤ n → qPs B n false f ln p L h I M = .inr r → ∃ X, r.2.1 = L ++ X := by
  intro f
  induction f with
  | zero => intro ln p L h I M r _ e; exact absurd (show (.inl (0, 0, 0) : qPr) = .inr r from e) (by simp)
  | succ f ih =>
    intro ln p L h I M r hp e
    have nx : ∀ e, e ≤ n → qnx n e ≤ n := fun e he => by unfold qnx; split <;> omega
    by_cases c : n ≤ p
    · rw [qPs_e c] at e
      split at e
      · have := Sum.inr.inj e; rw [← this]; exact ⟨[], (List.append_nil L).symm⟩
      · exact absurd e (by simp)
    · by_cases d : ln + 1 ≤ 300
      · cases hd : qid I with
        | true =>
          cases hg : qLfa B n false L h h I M p with
          | some g => rw [qPs_lf c d hd hg] at e; exact absurd e (by simp)
          | none =>
            rw [qPs_ln c d hd hg] at e
            obtain ⟨_, ⟨Z, hZ⟩, _⟩ := q_lnf (X := []) (M := M) hS hp hg
            obtain ⟨_, p', ho, hend, _⟩ := qLF_n hg
            have pe : (qT B n (qou (qLn B n false L h h I M p).2.1)).2.1 ≤ n ∨ True := Or.inr trivial
            have hq : qnx n (qT B n (qou (qLn B n false L h h I M p).2.1)).2.1 ≤ n := by
              by_cases cc : (qT B n (qou (qLn B n false L h h I M p).2.1)).2.1 < n
              · unfold qnx; rw [if_pos cc]; omega
              · unfold qnx; rw [if_neg cc]; exact Nat.le_refl _
            obtain ⟨X, hX⟩ := ih _ _ _ _ _ _ r hq e
            exact ⟨Z ++ X, by rw [hX, hZ, List.append_assoc]⟩
        | false =>
          cases hg : qsky I (qskw B n p) with
          | inl g => rw [qPs_sf c d hd hg] at e; exact absurd e (by simp)
          | inr I' =>
            rw [qPs_sk c d hd hg] at e
            exact ih _ _ _ _ _ _ r (nx _ (qeol_b hS hp).2.1) e
      · rw [qPs_9 c d] at e; exact absurd e (by simp)
