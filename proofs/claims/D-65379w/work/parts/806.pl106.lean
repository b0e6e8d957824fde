set_option maxRecDepth 100000
set_option maxHeartbeats 4000000
/-! The plain law: the second pass follows the first. -/
theorem Ps_mo {B : Nat → Nat} {n : Nat} {a : Option qSm} {l d p : Nat} {s : qSm} {o : qOu} (h : Ps B n a l d p s o) {e1 e2 : qEv} (he : ∀ l v, e1.1 l = some v → e2.1 l = some v) (h0 : e1.2 = e2.2) : (∀ s0, a = some s0 → (s0 e1).1 = none → s0 e2 = s0 e1) → (s e1).1 = none → s e2 = s e1 := by
  have qn : ∀ (a b : Option (Nat × Nat)), qoe a b = none → a = none ∧ b = none := by
    intro a b hq
    cases a with
    | none => exact ⟨rfl, hq⟩
    | some x => exact absurd hq (by unfold qoe; simp)
  refine h (fun a l d p s o => (∀ s0, a = some s0 → (s0 e1).1 = none → s0 e2 = s0 e1) → (s e1).1 = none → s e2 = s e1) ⟨?_, ?_, ?_, ?_, ?_, ?_, ?_, ?_, ?_, ?_, ?_, ?_, ?_, ?_, ?_⟩
  · intro d p h _ _; rfl
  · intro d p h _ _; show (none, e2.2) = (none, e1.2); rw [h0]
  · intro d p h h2 _ hs
    unfold qnv at hs ⊢
    cases hv : e1.1 (qna B (qT B n p)) with
    | none => rw [hv] at hs; exact absurd hs (by simp)
    | some v => rw [he _ v hv]
  · intro d p h h2 _ _; rfl
  · intro d p s o h hd h2 _ hs
    have e := h2 (fun s0 hs0 => absurd hs0 (by simp)) hs
    unfold qun; rw [e]
  · intro d p s f h hd h2 _ hs; exact h2 (fun s0 hs0 => absurd hs0 (by simp)) hs
  · intro d p s p1 h hd h2 h3 _ hs; exact h2 (fun s0 hs0 => absurd hs0 (by simp)) hs
  · intro d p s p1 h hd h2 h3 _ hs; exact h2 (fun s0 hs0 => absurd hs0 (by simp)) hs
  · intro d p h hd _ _; rfl
  · intro d p h _ _; rfl
  · intro l d p s f h1 h6 h _ hs; exact h (fun s0 hs0 => absurd hs0 (by simp)) hs
  · intro l d p s p1 s' o h1 h6 h h2 _ hs
    exact h2 (fun s0 hs0 hz => by have := Option.some.inj hs0; subst this; exact h (fun s0 hs0 => absurd hs0 (by simp)) hz) hs
  · intro s l d p h1 h6 h ha hs; exact ha s rfl hs
  · intro s l d p s2 f h1 h6 h h2 ha hs
    obtain ⟨q1, q2⟩ := qn _ _ hs
    unfold qth
    rw [ha s rfl q1, h2 (fun s0 hs0 => absurd hs0 (by simp)) q2]
  · intro s l d p s2 p1 s' o h1 h6 h h2 h3 ha hs
    refine h3 (fun s0 hs0 hz => ?_) hs
    have := Option.some.inj hs0
    subst this
    obtain ⟨q1, q2⟩ := qn _ _ hz
    obtain ⟨q3, q4⟩ := qn _ _ q2
    unfold qcm
    rw [ha s rfl q1, h2 (fun s0 hs0 => absurd hs0 (by simp)) q3]
theorem qlk_mo : ∀ (L X : List (List Nat × Int32)) (l : List Nat) (v : Int32), qlk L l = some v → qlk (L ++ X) l = some v := by
  intro L
  induction L with
  | nil => intro X l v h; exact absurd h (by unfold qlk; simp)
  | cons e L ih =>
    intro X l v h
    unfold qlk at h ⊢
    have q1 : ∀ T : List (List Nat × Int32), qlf l (e :: T) = if e.1 = l then 0 else qlf l T + 1 := fun T => by
      have := qlf_drop l (e :: T) 0 e rfl
      exact this
    rw [q1] at h
    show (((e :: (L ++ X)))[qlf l (e :: (L ++ X))]?).map Prod.snd = some v
    rw [q1]
    by_cases c : e.1 = l
    · rw [if_pos c] at h ⊢; exact h
    · rw [if_neg c] at h ⊢
      exact ih X l v h
theorem q_exm {B : Nat → Nat} {n p : Nat} (hS : qS B n) (hp : p ≤ n) {L : List (List Nat × Int32)} {org : Nat} (X : List (List Nat × Int32)) (h : ((qEX B n p).1 (qen L org)).1 = none) : (qEX B n p).1 (qen (L ++ X) org) = (qEX B n p).1 (qen L org) :=
  Ps_mo (qEX_s hS hp) (e1 := qen L org) (e2 := qen (L ++ X) org) (fun l v hv => qlk_mo L X l v hv) rfl (fun s0 hs0 => absurd hs0 (by simp)) h
theorem qLF_n {B : Nat → Nat} {n : Nat} {G : Option (Nat × Nat)} {o : qOu} {h' q : Nat} (h : qLF B n G o h' q = none) : G = none ∧ ∃ p', o = .inr p' ∧ (qT B n p').1 = 0 ∧ h' ≤ 65536 := by
  cases G with
  | some g => exact absurd (show some g = none from h) (by simp)
  | none =>
    refine ⟨rfl, ?_⟩
    cases o with
    | inl f => exact absurd (show some f = none from h) (by simp)
    | inr p' =>
      have h : (if (qT B n p').1 = 0 then (if 65536 < h' then some (8, q) else none) else some (qwr (qT B n p'), (qT B n p').2.1)) = none := h
      by_cases c : (qT B n p').1 = 0
      · rw [if_pos c] at h
        by_cases c2 : 65536 < h'
        · rw [if_pos c2] at h; exact absurd h (by simp)
        · exact ⟨p', rfl, c, by omega⟩
      · rw [if_neg c] at h; exact absurd h (by simp)
theorem q_daf {B : Nat → Nat} {n : Nat} {wide : Bool} {L L' : List (List Nat × Int32)} {org : Nat} {s s' : Bool} : ∀ (f p : Nat), (qDa B n s wide L org f p).2.2 = (qDa B n s' wide L' org f p).2.2 ∧ (qDa B n s wide L org f p).2.1.length = (qDa B n s' wide L' org f p).2.1.length := by
  have db : ∀ p, (qDb B n wide L org p).length = (qDb B n wide L' org p).length := by
    intro p
    unfold qDb
    split
    · rfl
    · split
      · show (2 : Nat) = 2; rfl
      · show (1 : Nat) = 1; rfl
  intro f
  induction f with
  | zero => intro p; exact ⟨rfl, rfl⟩
  | succ f ih =>
    intro p
    cases ho : qDo B n wide p with
    | inl x => rw [qDa_i ho, qDa_i ho]; dsimp only; exact ⟨rfl, rfl⟩
    | inr p' =>
      by_cases c : (qT B n p').1 = 44
      · rw [qDa_c ho c, qDa_c ho c]
        have t := ih (qT B n p').2.2.1
        dsimp only
        refine ⟨t.1, ?_⟩
        rw [List.length_append, List.length_append, db, t.2]
      · rw [qDa_e ho c, qDa_e ho c]
        dsimp only
        exact ⟨rfl, db p⟩
theorem q_dal {B : Nat → Nat} {n : Nat} (hS : qS B n) {sec wide : Bool} {L : List (List Nat × Int32)} {org : Nat} : ∀ (f p : Nat), p ≤ n → (qDa B n sec wide L org f p).2.1.length ≤ f * 6002 := by
  have hn := hS.1
  have db : ∀ p, p ≤ n → (qDb B n wide L org p).length ≤ 6002 := by
    intro p hp
    have hb := qT_b hS p hp
    have := hb.2.2.1
    unfold qDb
    split
    · rw [List.length_map, List.length_range]; omega
    · split
      · show (2 : Nat) ≤ 6002; omega
      · show (1 : Nat) ≤ 6002; omega
  intro f
  induction f with
  | zero => intro p _; exact Nat.le_refl _
  | succ f ih =>
    intro p hp
    cases ho : qDo B n wide p with
    | inl x => rw [qDa_i ho]; exact Nat.zero_le _
    | inr p' =>
      have e : (f + 1) * 6002 = f * 6002 + 6002 := by rw [Nat.add_mul, Nat.one_mul]
      by_cases c : (qT B n p').1 = 44
      · rw [qDa_c ho c]
        have t := ih (qT B n p').2.2.1 ?_
        · show (qDb B n wide L org p ++ (qDa B n sec wide L org f (qT B n p').2.2.1).2.1).length ≤ _
          rw [List.length_append]
          have := db p hp
          omega
        · by_cases cp : p' ≤ n
          · exact (qT_b hS p' cp).2.2.1
          · have ob : p' ≤ n := by
              unfold qDo at ho
              split at ho
              · have := Sum.inr.inj ho; have := (qT_b hS p hp).2.2.1; omega
              · exact (Ps_lt hS (qEX_s hS hp) hp p' ho).1
            exact absurd ob cp
      · rw [qDa_e ho c]
        have := db p hp
        show (qDb B n wide L org p).length ≤ _
        omega
/-- a word's statement in the second pass -/
theorem q_swf {B : Nat → Nat} {n w q p : Nat} (hS : qS B n) (hp : p ≤ n) {L X : List (List Nat × Int32)} {org h : Nat} {I : List (Bool × Bool)} {M1 M : qMem} (F : qLF B n (qSw B n false w q L org h I M1 p).1 (qSw B n false w q L org h I M1 p).2.1 (qSw B n false w q L org h I M1 p).2.2.2.1 q = none) :
    qSk B n w p ∧ (qSw B n true w q (L ++ X) org h I M p).2.1 = (qSw B n false w q L org h I M1 p).2.1 ∧ (qSw B n true w q (L ++ X) org h I M p).2.2.1 = L ++ X ∧ (qSw B n true w q (L ++ X) org h I M p).2.2.2.1 = (qSw B n false w q L org h I M1 p).2.2.2.1 ∧ (qSw B n true w q (L ++ X) org h I M p).2.2.2.2.1 = (qSw B n false w q L org h I M1 p).2.2.2.2.1 := by
  obtain ⟨G0, p', ho, hend, hle⟩ := qLF_n F
  by_cases c67 : w < 67
  · have eq : ∀ (s : Bool) (K : List (List Nat × Int32)) (m : qMem), qSw B n s w q K org h I m p = ((qIn B n s w q K org h p).1, (qIn B n s w q K org h p).2.2, K, h + (qIn B n s w q K org h p).2.1.length, I, qlm (qIn B n s w q K org h p).2.1 m h) := fun _ _ _ => if_pos c67
    rw [eq, eq]
    dsimp only
    rw [eq] at G0 ho
    have G0 : (qIn B n false w q L org h p).1 = none := G0
    have ho : (qIn B n false w q L org h p).2.2 = .inr p' := ho
    cases hm : (qOm B n p).2 with
    | inl f => rw [qIn_i hm] at ho; exact absurd ho (by simp)
    | inr p1 =>
      by_cases c0 : (qT B n p1).1 = 0
      · cases hf : qFo B n w p with
        | none => rw [qIn_n hm c0 hf] at G0; exact absurd G0 (by simp)
        | some f =>
          have t : (qIn B n true w q (L ++ X) org h p).2.2 = .inr p1 ∧ (qIn B n true w q (L ++ X) org h p).2.1.length = e_sz f := by
            by_cases hg : qFi B n w (qen (L ++ X) org) p (Int32.ofNat (h + e_sz f)) f = none
            · rw [qIn_2 hm c0 hf rfl hg]; exact ⟨rfl, qIo_len c67 hf hg⟩
            · rw [qIn_3 hm c0 hf rfl hg]; exact ⟨rfl, List.length_replicate⟩
          rw [qIn_1 (sec := false) hm c0 hf rfl, t.1, t.2]
          dsimp only
          refine ⟨fun _ => ⟨f, p1, hm, c0, hf⟩, rfl, rfl, ?_, rfl⟩
          rw [List.length_replicate]
      · rw [qIn_w hm c0] at ho; exact absurd ho (by simp)
  have sk : qSk B n w p := fun c => absurd c c67
  by_cases d67 : w = 67
  · have eq : ∀ (s : Bool) (K : List (List Nat × Int32)) (m : qMem), qSw B n s w q K org h I m p = (qkg ((qEX B n p).1 (qen K org)).1 ((qEX B n p).1 (qen K org)).2 (qEX B n p).2 0 65535 (qT B n p).2.1, (qEX B n p).2, K, min 65536 ((qEX B n p).1 (qen K org)).2.toNatClampNeg, I, m) := fun _ _ _ => by unfold qSw; rw [if_neg c67, if_pos d67]
    rw [eq, eq]
    dsimp only
    rw [eq] at G0 ho
    have ho : (qEX B n p).2 = .inr p' := ho
    obtain ⟨g1, g2⟩ := qS1_n ho G0
    refine ⟨sk, rfl, rfl, ?_, rfl⟩
    rw [q_exm hS hp X g1]
  by_cases d69 : w = 69 ∨ w = 70
  · have eq : ∀ (s : Bool) (K : List (List Nat × Int32)) (m : qMem), qSw B n s w q K org h I m p = ((qDa B n s (decide (w = 70)) K org 6002 p).1, (qDa B n s (decide (w = 70)) K org 6002 p).2.2, K, h + (qDa B n s (decide (w = 70)) K org 6002 p).2.1.length, I, qlm (qDa B n s (decide (w = 70)) K org 6002 p).2.1 m h) := fun _ _ _ => by unfold qSw; rw [if_neg c67, if_neg d67, if_pos d69]
    rw [eq, eq]
    dsimp only
    have t := q_daf (B := B) (n := n) (wide := decide (w = 70)) (L := L ++ X) (L' := L) (org := org) (s := true) (s' := false) 6002 p
    refine ⟨sk, t.1, rfl, ?_, rfl⟩
    rw [t.2]
  by_cases d71 : w = 71
  · have eq : ∀ (s : Bool) (K : List (List Nat × Int32)) (m : qMem), qSw B n s w q K org h I m p = ((qSp B n s K org p).1, (qSp B n s K org p).2.2, K, h + (qSp B n s K org p).2.1.length, I, qlm (qSp B n s K org p).2.1 m h) := fun _ _ _ => by unfold qSw; rw [if_neg c67, if_neg d67, if_neg d69, if_pos d71]
    rw [eq, eq]
    dsimp only
    rw [eq] at G0 ho
    have G0 : (qSp B n false L org p).1 = none := G0
    have ho : (qSp B n false L org p).2.2 = .inr p' := ho
    cases hx : (qEX B n p).2 with
    | inl f => rw [qSp_i hx] at ho; exact absurd ho (by simp)
    | inr p1 =>
      cases hg : qS1 B n L org p with
      | some g => rw [qSp_g hx hg] at G0; exact absurd G0 (by simp)
      | none =>
        obtain ⟨g1, g2⟩ := qS1_n hx hg
        have ee := q_exm hS hp X g1
        have hg' : qS1 B n (L ++ X) org p = none := by unfold qS1 at hg ⊢; rw [ee]; exact hg
        by_cases c44 : (qT B n p1).1 = 44
        · rw [qSp_c hx hg c44, qSp_c hx hg' c44]
          dsimp only
          refine ⟨sk, rfl, rfl, ?_, rfl⟩
          rw [List.length_replicate, List.length_replicate, ee]
        · rw [qSp_e hx hg c44, qSp_e hx hg' c44]
          dsimp only
          refine ⟨sk, rfl, rfl, ?_, rfl⟩
          rw [List.length_replicate, List.length_replicate, ee]
  by_cases d72 : w = 72
  · have eq : ∀ (s : Bool) (K : List (List Nat × Int32)) (m : qMem), qSw B n s w q K org h I m p = (qIfG B n p K org I, qIfO B n p I q, K, h, (decide (((qEX B n p).1 (qen K org)).2 ≠ 0), false) :: I, m) := fun _ _ _ => by unfold qSw; rw [if_neg c67, if_neg d67, if_neg d69, if_neg d71, if_pos d72]
    rw [eq, eq]
    dsimp only
    rw [eq] at G0 ho
    have ho : qIfO B n p I q = .inr p' := ho
    have G0 : qIfG B n p L org I = none := G0
    unfold qIfO at ho
    by_cases c8 : I.length = 8
    · rw [if_pos c8] at ho; exact absurd ho (by simp)
    · unfold qIfG at G0
      rw [if_neg c8] at G0
      refine ⟨sk, rfl, rfl, rfl, ?_⟩
      rw [q_exm hS hp X G0]
  by_cases d73 : w = 73 ∨ w = 74
  · have eq : ∀ (s : Bool) (K : List (List Nat × Int32)) (m : qMem), qSw B n s w q K org h I m p = (none, qTuO (decide (w = 73)) I q p, K, h, qTuI (decide (w = 73)) I q, m) := fun _ _ _ => by unfold qSw; rw [if_neg c67, if_neg d67, if_neg d69, if_neg d71, if_neg d72, if_pos d73]
    rw [eq, eq]
    dsimp only
    exact ⟨sk, rfl, rfl, rfl, rfl⟩
  · have eq : ∀ (s : Bool) (K : List (List Nat × Int32)) (m : qMem), qSw B n s w q K org h I m p = (none, .inl (6, q), K, h, I, m) := fun _ _ _ => by unfold qSw; rw [if_neg c67, if_neg d67, if_neg d69, if_neg d71, if_neg d72, if_neg d73]
    rw [eq] at ho
    exact absurd ho (by simp)
/-- a statement in the second pass -/
theorem q_sgf {B : Nat → Nat} {n p : Nat} (hS : qS B n) (hp : p ≤ n) {L X : List (List Nat × Int32)} {org h : Nat} {I : List (Bool × Bool)} {M1 M : qMem} (F : qLF B n (qSg B n false L org h I M1 p).1 (qSg B n false L org h I M1 p).2.1 (qSg B n false L org h I M1 p).2.2.2.1 (qT B n p).2.1 = none) :
    ((qT B n p).1 = 1 → qiq B n (qT B n p).2.2.1 = false → qSk B n (qri (qna B (qT B n p))) (qT B n p).2.2.1) ∧ (qSg B n true (L ++ X) org h I M p).2.1 = (qSg B n false L org h I M1 p).2.1 ∧ (qSg B n true (L ++ X) org h I M p).2.2.1 = L ++ X ∧ (qSg B n true (L ++ X) org h I M p).2.2.2.1 = (qSg B n false L org h I M1 p).2.2.2.1 ∧ (qSg B n true (L ++ X) org h I M p).2.2.2.2.1 = (qSg B n false L org h I M1 p).2.2.2.2.1 := by
  have hb := qT_b hS p hp
  by_cases c0 : (qT B n p).1 = 0
  · have eq : ∀ (s : Bool) (K : List (List Nat × Int32)) (m : qMem), qSg B n s K org h I m p = (none, .inr p, K, h, I, m) := fun _ _ _ => if_pos c0
    rw [eq, eq]
    dsimp only
    exact ⟨fun e => absurd e (by omega), rfl, rfl, rfl, rfl⟩
  by_cases c1 : (qT B n p).1 = 1
  · cases hq : qiq B n (qT B n p).2.2.1 with
    | true =>
      have eq : ∀ (s : Bool) (K : List (List Nat × Int32)) (m : qMem), qSg B n s K org h I m p = (qEqG B n (qT B n p).2.2.1 s K org (qna B (qT B n p)), qEqO B n (qT B n p).2.2.1 s K (qna B (qT B n p)) (qT B n p).2.1, qEqL B n (qT B n p).2.2.1 s K org (qna B (qT B n p)), h, I, m) := fun _ _ _ => by unfold qSg; rw [if_neg c0, if_pos c1, if_pos hq]
      obtain ⟨G0, p', ho, _, _⟩ := qLF_n F
      rw [eq] at ho
      rw [eq, eq]
      dsimp only
      have ho : qEqO B n (qT B n p).2.2.1 false L (qna B (qT B n p)) (qT B n p).2.1 = .inr p' := ho
      refine ⟨fun _ e => absurd e (by decide), ?_, ?_, rfl, rfl⟩
      · show qEqO B n (qT B n p).2.2.1 true (L ++ X) (qna B (qT B n p)) (qT B n p).2.1 = qEqO B n (qT B n p).2.2.1 false L (qna B (qT B n p)) (qT B n p).2.1
        unfold qEqO at ho ⊢
        by_cases c : (false = false) ∧ qbd L (qna B (qT B n p)) = true
        · rw [if_pos c] at ho; exact absurd ho (by simp)
        · rw [if_neg c, if_neg (fun e => absurd e.1 (by decide))]
      · show qEqL B n (qT B n p).2.2.1 true (L ++ X) org (qna B (qT B n p)) = L ++ X
        unfold qEqL
        rw [if_pos rfl]
    | false =>
      have eq : ∀ (s : Bool) (K : List (List Nat × Int32)) (m : qMem), qSg B n s K org h I m p = qSw B n s (qri (qna B (qT B n p))) (qT B n p).2.1 K org h I m (qT B n p).2.2.1 := fun _ _ _ => by unfold qSg; rw [if_neg c0, if_pos c1, if_neg (by rw [hq]; decide)]
      rw [eq] at F
      have R := q_swf (X := X) (M := M) hS hb.2.2.1 F
      rw [eq, eq]
      exact ⟨fun _ _ => R.1, R.2⟩
  · have eq : ∀ (s : Bool) (K : List (List Nat × Int32)) (m : qMem), qSg B n s K org h I m p = (none, .inl (qwr (qT B n p), (qT B n p).2.1), K, h, I, m) := fun _ _ _ => by unfold qSg; rw [if_neg c0, if_neg c1]
    obtain ⟨_, p', ho, _, _⟩ := qLF_n F
    rw [eq] at ho
    exact absurd ho (by simp)
theorem q_sgL {B : Nat → Nat} {n p : Nat} {L : List (List Nat × Int32)} {org h : Nat} {I : List (Bool × Bool)} {M : qMem} : ∃ Z, (qSg B n false L org h I M p).2.2.1 = L ++ Z := by
  have nz : ∀ K : List (List Nat × Int32), K = K ++ [] := fun K => (List.append_nil K).symm
  unfold qSg
  split
  · exact ⟨[], nz L⟩
  · split
    · split
      · refine ⟨[(qna B (qT B n p), ((qEX B n (qT B n (qT B n p).2.2.1).2.2.1).1 (qen L org)).2)], ?_⟩
        show qEqL B n (qT B n p).2.2.1 false L org (qna B (qT B n p)) = _
        unfold qEqL
        rw [if_neg (by decide)]
      · refine ⟨[], ?_⟩
        unfold qSw
        split
        · exact nz L
        · split
          · exact nz L
          · split
            · exact nz L
            · split
              · exact nz L
              · split
                · exact nz L
                · split
                  · exact nz L
                  · exact nz L
    · exact ⟨[], nz L⟩
/-- a line in the second pass -/
theorem q_lnf {B : Nat → Nat} {n p : Nat} (hS : qS B n) (hp : p ≤ n) {L X : List (List Nat × Int32)} {org h : Nat} {I : List (Bool × Bool)} {M1 M : qMem} (F : qLfa B n false L org h I M1 p = none) :
    ((qT B n (qLp B n p)).1 = 1 → qiq B n (qT B n (qLp B n p)).2.2.1 = false → qSk B n (qri (qna B (qT B n (qLp B n p)))) (qT B n (qLp B n p)).2.2.1) ∧ (∃ Z, (qLn B n false L org h I M1 p).2.2.1 = L ++ Z) ∧ ((qLn B n true ((qLn B n false L org h I M1 p).2.2.1 ++ X) org h I M p).2.1 = (qLn B n false L org h I M1 p).2.1 ∧ (qLn B n true ((qLn B n false L org h I M1 p).2.2.1 ++ X) org h I M p).2.2.1 = (qLn B n false L org h I M1 p).2.2.1 ++ X ∧ (qLn B n true ((qLn B n false L org h I M1 p).2.2.1 ++ X) org h I M p).2.2.2.1 = (qLn B n false L org h I M1 p).2.2.2.1 ∧ (qLn B n true ((qLn B n false L org h I M1 p).2.2.1 ++ X) org h I M p).2.2.2.2.1 = (qLn B n false L org h I M1 p).2.2.2.2.1) := by
  have hb := qT_b hS p hp
  have hb2 := qT_b hS _ hb.2.2.1
  by_cases c : (qT B n p).1 = 1 ∧ (qT B n (qT B n p).2.2.1).1 = 58
  · have eP : qLp B n p = (qT B n (qT B n p).2.2.1).2.2.1 := if_pos c
    unfold qLfa at F
    rw [eP] at F ⊢
    cases hbd : qbd L (qna B (qT B n p)) with
    | true =>
      have eL : qLn B n false L org h I M1 p = (none, .inl (3, (qT B n p).2.1), L, h, I, M1) := by unfold qLn; rw [if_pos c, if_pos ⟨rfl, hbd⟩]
      rw [eL] at F
      obtain ⟨_, p', ho, _⟩ := qLF_n F
      exact absurd ho (by simp)
    | false =>
      have eL : qLn B n false L org h I M1 p = qSg B n false (L ++ [(qna B (qT B n p), Int32.ofNat h)]) org h I M1 (qT B n (qT B n p).2.2.1).2.2.1 := by
        unfold qLn; rw [if_pos c, if_neg (fun e => by rw [hbd] at e; exact absurd e.2 (by decide)), if_neg (by decide)]
      have eT : ∀ K, qLn B n true K org h I M p = qSg B n true K org h I M (qT B n (qT B n p).2.2.1).2.2.1 := fun K => by
        unfold qLn; rw [if_pos c, if_neg (fun e => absurd e.1 (by decide)), if_pos rfl]
      rw [eL] at F
      obtain ⟨Z, hZ⟩ := q_sgL (B := B) (n := n) (p := (qT B n (qT B n p).2.2.1).2.2.1) (L := L ++ [(qna B (qT B n p), Int32.ofNat h)]) (org := org) (h := h) (I := I) (M := M1)
      have R := q_sgf (X := Z ++ X) (M := M) hS hb2.2.2.1 F
      rw [eT, eL, hZ]
      refine ⟨R.1, ⟨[(qna B (qT B n p), Int32.ofNat h)] ++ Z, by rw [List.append_assoc]⟩, ?_⟩
      rw [List.append_assoc (L ++ [(qna B (qT B n p), Int32.ofNat h)]) Z X]
      exact R.2
  · have eP : qLp B n p = p := if_neg c
    have eL : ∀ (s : Bool) (K : List (List Nat × Int32)) (m : qMem), qLn B n s K org h I m p = qSg B n s K org h I m p := fun _ _ _ => if_neg c
    unfold qLfa at F
    rw [eP, eL] at F
    rw [eP, eL, eL]
    obtain ⟨Z, hZ⟩ := q_sgL (B := B) (n := n) (p := p) (L := L) (org := org) (h := h) (I := I) (M := M1)
    have R := q_sgf (X := Z ++ X) (M := M) hS hp F
    rw [hZ]
    refine ⟨R.1, ⟨Z, rfl⟩, ?_⟩
    rw [List.append_assoc L Z X]
    exact R.2
