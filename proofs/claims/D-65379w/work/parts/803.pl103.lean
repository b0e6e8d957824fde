set_option maxRecDepth 100000
set_option maxHeartbeats 4000000
/-! The plain law: the model reads a line. -/
theorem mSo_p {B : Nat → Nat} {n : Nat} {F : Option (Nat × Nat)} {o : qOu} {post post' : fv_S → Prop} {τ : fv_S} {out : Option fv_O} (h : mSo B n F o post τ out) (g : ∀ s, F = none → post s → post' s) : mSo B n F o post' τ out := by
  cases F with
  | some f => exact h
  | none => obtain ⟨p', τ', h1, h2, h3, h4, h5, h6, h7⟩ := h; exact ⟨p', τ', h1, h2, h3, h4, h5, h6, g τ' rfl h7⟩
theorem e_plm : ∀ j, j < 99 → (((0 : Int32) ≤ p_v (zX8_plain (qwd (p_nm j)) p_σd) ∨ ¬ p_v (zX8_isMany (qwd (p_nm j)) p_σd) = 0) ↔ j < 67) := by decide +kernel
/-- a statement's word, in the model -/
theorem m_word {B : Nat → Nat} {n N p q : Nat} (hS : qS B n) (hN : 70000 ≤ N) {l : List Nat} (hz : qnz l) {sec : Bool} {L : List (List Nat × Int32)} {h : Nat} {I : List (Bool × Bool)} {org : Nat} {M : qMem} {τ : fv_S} (z : mZ B n sec L h I org τ) (k : qMt B (qT B n p) τ) (hp : p ≤ n) (hI : I.length ≤ 8) (hh6 : h ≤ 65536) (hM : sec = true → mMe M τ) (hB : sec = true → M.2.1 ≤ 2000000000 + h) (hst : sec = true → qSk B n (qri l) p) (hh : sec = true → (qSw B n sec (qri l) q L org h I M p).2.2.2.1 ≤ 65536) :
    mSo B n (qLF B n (qSw B n sec (qri l) q L org h I M p).1 (qSw B n sec (qri l) q L org h I M p).2.1 (qSw B n sec (qri l) q L org h I M p).2.2.2.1 q) (qSw B n sec (qri l) q L org h I M p).2.1 (fun τ' => mZ B n sec (qSw B n sec (qri l) q L org h I M p).2.2.1 (qSw B n sec (qri l) q L org h I M p).2.2.2.1 (qSw B n sec (qri l) q L org h I M p).2.2.2.2.1 org τ' ∧ (sec = true → mMe (qSw B n sec (qri l) q L org h I M p).2.2.2.2.2 τ') ∧ (sec = false → mMs τ τ')) τ (zX8_statement N (Int32.ofNat q) (qwd l) τ) := by
  have hN7 : 7000 ≤ N := by omega
  have hle := qri_le l
  unfold zX8_statement
  rw [m_isSta hz, fv_bi_ri]
  have w6 : mSo B n (qLF B n none (.inl (6, q)) h q) (.inl (6, q)) (fun τ' => mZ B n sec L h I org τ' ∧ (sec = true → mMe M τ') ∧ (sec = false → mMs τ τ')) τ (fv_bi (zX8_wrong 6 (Int32.ofNat q) τ) (fun r23 σ22 => if r23 = 0 ∨ r23 = 1 then fv_ri r23 σ22 else none) fv_no) := mFx_w z.2.2.2.2.2.1 (6, q) ⟨by show 1 ≤ 6; omega, by show 6 ≤ 9; omega⟩
  have keep : ∀ {s : fv_S} {I' : List (Bool × Bool)} {L' : List (List Nat × Int32)} {h' : Nat}, mZ B n sec L' h' I' org s ∧ mMs τ s → mZ B n sec L' h' I' org s ∧ (sec = true → mMe M s) ∧ (sec = false → mMs τ s) := fun hs => ⟨hs.1, fun h1 => mMe_s (hM h1) hs.2, fun _ => hs.2⟩
  by_cases cd : 67 ≤ qri l ∧ qri l ≤ 74 ∧ qri l ≠ 68
  · -- a directive
    rw [if_pos (show qri l < 99 by omega)]
    rw [if_neg (show ¬ (fun j => if 67 ≤ j ∧ j ≤ 74 ∧ j ≠ 68 then (1 : Int32) else 0) (qri l) = 0 by show ¬ (if 67 ≤ qri l ∧ qri l ≤ 74 ∧ qri l ≠ 68 then (1 : Int32) else 0) = 0; rw [if_pos cd]; decide)]
    refine mSo_b ?_
    have DB : lg_cmp (qwd l) 17474 = 0 ↔ qri l = 69 := m_wq hz (by omega) (by decide +kernel)
    have DW : lg_cmp (qwd l) 17495 = 0 ↔ qri l = 70 := m_wq hz (by omega) (by decide +kernel)
    have OR : lg_cmp (qwd l) 5198407 = 0 ↔ qri l = 67 := m_wq hz (by omega) (by decide +kernel)
    have DS : lg_cmp (qwd l) 17491 = 0 ↔ qri l = 71 := m_wq hz (by omega) (by decide +kernel)
    have IF : lg_cmp (qwd l) 18758 = 0 ↔ qri l = 72 := m_wq hz (by omega) (by decide +kernel)
    have EL : lg_cmp (qwd l) 1162629957 = 0 ↔ qri l = 73 := m_wq hz (by omega) (by decide +kernel)
    unfold zX8_directive
    generalize qri l = w at *
    have c67 : ¬ w < 67 := by omega
    by_cases d69 : w = 69 ∨ w = 70
    · have eq : qSw B n sec w q L org h I M p = ((qDa B n sec (decide (w = 70)) L org 6002 p).1, (qDa B n sec (decide (w = 70)) L org 6002 p).2.2, L, h + (qDa B n sec (decide (w = 70)) L org 6002 p).2.1.length, I, qlm (qDa B n sec (decide (w = 70)) L org 6002 p).2.1 M h) := by
        unfold qSw; rw [if_neg c67, if_neg (by omega), if_pos d69]
      rw [eq] at hh ⊢
      have st : zX8_directive_16 N (Int32.ofNat q) (qwd l) τ = zX8_directive_31 N (Int32.ofNat q) (q01 (decide (w = 70))) τ := by
        unfold zX8_directive_16
        by_cases d70 : w = 70
        · rw [if_neg (show ¬ ¬ lg_cmp (qwd l) 17495 = 0 from not_not_intro (DW.2 d70)), decide_eq_true d70]; rfl
        · rw [if_pos (show ¬ lg_cmp (qwd l) 17495 = 0 from fun x => d70 (DW.1 x)), decide_eq_false d70]; rfl
      have R := m_data (N := N) (q := q) hS hN7 (decide (w = 70)) hh6 z k hp hM hh hB
      rcases d69 with d | d
      · rw [if_pos (DB.2 d), st]; exact R
      · rw [if_neg (fun x => absurd (DB.1 x) (by omega)), if_neg (show ¬ ¬ lg_cmp (qwd l) 17495 = 0 from not_not_intro (DW.2 d)), st]; exact R
    rw [if_neg (fun x => d69 (Or.inl (DB.1 x))), if_pos (show ¬ lg_cmp (qwd l) 17495 = 0 from fun x => d69 (Or.inr (DW.1 x)))]
    by_cases d67 : w = 67
    · rw [if_neg (show ¬ ¬ lg_cmp (qwd l) 5198407 = 0 from not_not_intro (OR.2 d67))]
      have eq : qSw B n sec w q L org h I M p = (qkg ((qEX B n p).1 (qen L org)).1 ((qEX B n p).1 (qen L org)).2 (qEX B n p).2 0 65535 (qT B n p).2.1, (qEX B n p).2, L, min 65536 ((qEX B n p).1 (qen L org)).2.toNatClampNeg, I, M) := by
        unfold qSw; rw [if_neg c67, if_pos d67]
      rw [eq]
      refine mSo_p (m_org (N := N) (q := q) hS hN7 z hp k) (fun s hF hs => ?_)
      have hF : qLF B n (qkg ((qEX B n p).1 (qen L org)).1 ((qEX B n p).1 (qen L org)).2 (qEX B n p).2 0 65535 (qT B n p).2.1) (qEX B n p).2 (min 65536 ((qEX B n p).1 (qen L org)).2.toNatClampNeg) q = none := hF
      have hG : qkg ((qEX B n p).1 (qen L org)).1 ((qEX B n p).1 (qen L org)).2 (qEX B n p).2 0 65535 (qT B n p).2.1 = none := by
        revert hF
        cases qkg ((qEX B n p).1 (qen L org)).1 ((qEX B n p).1 (qen L org)).2 (qEX B n p).2 0 65535 (qT B n p).2.1 with
        | none => intro _; rfl
        | some x => intro e; exact absurd (show some x = none from e) (by simp)
      cases ho : (qEX B n p).2 with
      | inl x => rw [hG, ho] at hF; exact absurd (show some x = none from hF) (by simp)
      | inr p' =>
        obtain ⟨_, hi⟩ := qS1_n ho hG
        obtain ⟨m, m1, m2, m3, m4⟩ := qin_16 hi
        refine keep ⟨?_, hs.2⟩
        show mZ B n sec L (min 65536 ((qEX B n p).1 (qen L org)).2.toNatClampNeg) I org s
        rw [show min 65536 ((qEX B n p).1 (qen L org)).2.toNatClampNeg = ((qEX B n p).1 (qen L org)).2.toNatClampNeg by rw [m4]; omega]
        exact hs.1
    rw [if_pos (show ¬ lg_cmp (qwd l) 5198407 = 0 from fun x => d67 (OR.1 x))]
    by_cases d71 : w = 71
    · have eq : qSw B n sec w q L org h I M p = ((qSp B n sec L org p).1, (qSp B n sec L org p).2.2, L, h + (qSp B n sec L org p).2.1.length, I, qlm (qSp B n sec L org p).2.1 M h) := by
        unfold qSw; rw [if_neg c67, if_neg d67, if_neg d69, if_pos d71]
      rw [eq] at hh ⊢
      rw [if_neg (show ¬ ¬ lg_cmp (qwd l) 17491 = 0 from not_not_intro (DS.2 d71))]
      exact m_space hS hN hh6 z k hp hM hh hB
    rw [if_pos (show ¬ lg_cmp (qwd l) 17491 = 0 from fun x => d71 (DS.1 x))]
    by_cases d72 : w = 72
    · have eq : qSw B n sec w q L org h I M p = (qIfG B n p L org I, qIfO B n p I q, L, h, (decide (((qEX B n p).1 (qen L org)).2 ≠ 0), false) :: I, M) := by
        unfold qSw; rw [if_neg c67, if_neg d67, if_neg d69, if_neg d71, if_pos d72]
      rw [eq]
      rw [if_neg (show ¬ ¬ lg_cmp (qwd l) 18758 = 0 from not_not_intro (IF.2 d72))]
      exact mSo_p (m_if (N := N) hS hN7 z hp k hI hh6) (fun s _ hs => keep hs)
    · rw [if_pos (show ¬ lg_cmp (qwd l) 18758 = 0 from fun x => d72 (IF.1 x))]
      have d73 : w = 73 ∨ w = 74 := by omega
      have eq : qSw B n sec w q L org h I M p = (none, qTuO (decide (w = 73)) I q p, L, h, qTuI (decide (w = 73)) I q, M) := by
        unfold qSw; rw [if_neg c67, if_neg d67, if_neg d69, if_neg d71, if_neg d72, if_pos d73]
      rw [eq]
      exact mSo_p (m_tu z hp k hI hh6 (decide (w = 73)) (qwd l) (EL.trans decide_eq_true_iff.symm)) (fun s _ hs => keep hs)
  · have e0 : (if qri l < 99 then (fun j => if 67 ≤ j ∧ j ≤ 74 ∧ j ≠ 68 then (1 : Int32) else 0) (qri l) else 0) = 0 := by
      split
      · exact if_neg cd
      · rfl
    rw [if_pos e0]
    rw [m_plain hz, fv_bi_ri]
    by_cases c67 : qri l < 67
    · have eq : qSw B n sec (qri l) q L org h I M p = ((qIn B n sec (qri l) q L org h p).1, (qIn B n sec (qri l) q L org h p).2.2, L, h + (qIn B n sec (qri l) q L org h p).2.1.length, I, qlm (qIn B n sec (qri l) q L org h p).2.1 M h) := if_pos c67
      rw [eq] at hh ⊢
      have R := m_ins (N := N) (q := q) (w := qri l) hS hN7 c67 hh6 z k hp hM hB (fun hs => hst hs c67) hh
      rw [qri_lt (show qri l < 99 by omega)] at R
      have fin := (e_plm (qri l) (by omega)).2 c67
      rw [if_pos (show qri l < 99 by omega)]
      by_cases cp : (0 : Int32) ≤ p_v (zX8_plain (qwd (p_nm (qri l))) p_σd)
      · rw [if_pos (show (0 : Int32) ≤ (fun j => p_v (zX8_plain (qwd (p_nm j)) p_σd)) (qri l) from cp)]
        exact R
      · rw [if_neg (show ¬ (0 : Int32) ≤ (fun j => p_v (zX8_plain (qwd (p_nm j)) p_σd)) (qri l) from cp), m_isMan hz, fv_bi_ri, if_pos (show qri l < 99 by omega)]
        rw [if_pos (show ¬ (fun j => p_v (zX8_isMany (qwd (p_nm j)) p_σd)) (qri l) = 0 from fin.resolve_left cp)]
        exact R
    · have eq : qSw B n sec (qri l) q L org h I M p = (none, .inl (6, q), L, h, I, M) := by
        unfold qSw
        rw [if_neg c67, if_neg (by omega), if_neg (by omega), if_neg (by omega), if_neg (by omega), if_neg (by omega)]
      rw [eq]
      by_cases c99 : qri l < 99
      · have fin : ¬ _ := fun x => c67 ((e_plm (qri l) c99).1 x)
        rw [if_pos c99, if_neg (show ¬ (0 : Int32) ≤ (fun j => p_v (zX8_plain (qwd (p_nm j)) p_σd)) (qri l) from fun x => fin (Or.inl x)), m_isMan hz, fv_bi_ri, if_pos c99, if_neg (show ¬ ¬ (fun j => p_v (zX8_isMany (qwd (p_nm j)) p_σd)) (qri l) = 0 from fun x => fin (Or.inr x))]
        exact w6
      · rw [if_neg c99, if_neg (show ¬ (0 : Int32) ≤ -1 by decide), m_isMan hz, fv_bi_ri, if_neg c99, if_neg (show ¬ ¬ (0 : Int32) = 0 from not_not_intro rfl)]
        exact w6
/-- a statement that begins with a name, in the model -/
theorem m_143 {B : Nat → Nat} {n N p : Nat} (hS : qS B n) (hN : 70000 ≤ N) {sec : Bool} {L : List (List Nat × Int32)} {h : Nat} {I : List (Bool × Bool)} {org : Nat} {M : qMem} {τ : fv_S} (hp : p ≤ n) (h1 : (qT B n p).1 = 1) (z : mZ B n sec L h I org τ) (k : qMt B (qT B n (qT B n p).2.2.1) τ) (hI : I.length ≤ 8) (hh6 : h ≤ 65536) (hM : sec = true → mMe M τ) (hB : sec = true → M.2.1 ≤ 2000000000 + h)
    (hst : sec = true → (qT B n p).1 = 1 → qiq B n (qT B n p).2.2.1 = false → qSk B n (qri (qna B (qT B n p))) (qT B n p).2.2.1) (hh : sec = true → (qSg B n sec L org h I M p).2.2.2.1 ≤ 65536) :
    mSo B n (qLF B n (qSg B n sec L org h I M p).1 (qSg B n sec L org h I M p).2.1 (qSg B n sec L org h I M p).2.2.2.1 (qT B n p).2.1) (qSg B n sec L org h I M p).2.1 (fun τ' => mZ B n sec (qSg B n sec L org h I M p).2.2.1 (qSg B n sec L org h I M p).2.2.2.1 (qSg B n sec L org h I M p).2.2.2.2.1 org τ' ∧ (sec = true → mMe (qSg B n sec L org h I M p).2.2.2.2.2 τ') ∧ (sec = false → mMs τ τ')) τ (zX8_readLine_143 N (Int32.ofNat (qT B n p).2.1) (Int32.ofNat (qT B n p).2.2.1) (qwd (qna B (qT B n p))) τ) := by
  have hN7 : 7000 ≤ N := by omega
  have hb := qT_b hS p hp
  have b2 := hb.2.2.2.1 (by omega) (by omega)
  have b3 := hb.2.2.1
  have hz := (qna_nz hS h1).1
  have c0 : ¬ (qT B n p).1 = 0 := by omega
  have e3 := (m_k k.1 2 (by omega)).trans (qmk_e (qT B n (qT B n p).2.2.1).1).2.2.1
  have k174 : qiq B n (qT B n p).2.2.1 = false → mSo B n (qLF B n (qSg B n sec L org h I M p).1 (qSg B n sec L org h I M p).2.1 (qSg B n sec L org h I M p).2.2.2.1 (qT B n p).2.1) (qSg B n sec L org h I M p).2.1 (fun τ' => mZ B n sec (qSg B n sec L org h I M p).2.2.1 (qSg B n sec L org h I M p).2.2.2.1 (qSg B n sec L org h I M p).2.2.2.2.1 org τ' ∧ (sec = true → mMe (qSg B n sec L org h I M p).2.2.2.2.2 τ') ∧ (sec = false → mMs τ τ')) τ (zX8_readLine_174 N (Int32.ofNat (qT B n p).2.1) (qwd (qna B (qT B n p))) τ) := by
    intro hq
    have eq : qSg B n sec L org h I M p = qSw B n sec (qri (qna B (qT B n p))) (qT B n p).2.1 L org h I M (qT B n p).2.2.1 := by unfold qSg; rw [if_neg c0, if_pos h1, if_neg (by rw [hq]; decide)]
    rw [eq] at hh ⊢
    unfold zX8_readLine_174
    exact mSo_b (m_word (N := N) (q := (qT B n p).2.1) hS hN hz z k b3 hI hh6 hM hB (fun hs => hst hs h1 hq) hh)
  unfold zX8_readLine_143
  by_cases c1 : (qT B n (qT B n p).2.2.1).1 = 1
  · rw [if_neg (show ¬ ¬ fv_gi τ 3 = 2 from not_not_intro (e3.2 c1))]
    have g7 : fv_gl τ 7 = qwd (qna B (qT B n (qT B n p).2.2.1)) := by rw [k.1.2.2.2.2.2, if_pos c1]; rfl
    have EQ : lg_cmp (fv_gl τ 7) 4542805 = 0 ↔ qri (qna B (qT B n (qT B n p).2.2.1)) = 68 := by rw [g7]; exact m_wq (qna_nz hS c1).1 (by omega) (by decide +kernel)
    by_cases c68 : qri (qna B (qT B n (qT B n p).2.2.1)) = 68
    · have hq : qiq B n (qT B n p).2.2.1 = true := decide_eq_true ⟨c1, c68⟩
      have eq : qSg B n sec L org h I M p = (qEqG B n (qT B n p).2.2.1 sec L org (qna B (qT B n p)), qEqO B n (qT B n p).2.2.1 sec L (qna B (qT B n p)) (qT B n p).2.1, qEqL B n (qT B n p).2.2.1 sec L org (qna B (qT B n p)), h, I, M) := by unfold qSg; rw [if_neg c0, if_pos h1, if_pos hq]
      rw [if_neg (show ¬ ¬ lg_cmp (fv_gl τ 7) 4542805 = 0 from not_not_intro (EQ.2 c68)), eq]
      obtain ⟨τ1, x1, f1, k1⟩ := m_go (N := N) hS hN7 b3 z.1 k
      rw [x1, fv_bv_rv]
      have hb1 := qT_b hS _ b3
      have R := m_equ (N := N) (q0 := (qT B n p).2.1) (q := (qT B n p).2.1) (k := (qT B n p).2.2.1 - (qT B n p).2.1) hS hN7 (mZ_q z f1) hb1.2.2.1 k1 hh6 (by omega) (qT_12 h1) hz
      rw [show (qT B n p).2.1 + ((qT B n p).2.2.1 - (qT B n p).2.1) = (qT B n p).2.2.1 by omega] at R
      refine mSo_b (mSo_t (mFo_q f1) (mSo_p R (fun s _ hs => ⟨hs.1, fun h1 => mMe_s (mMe_s (hM h1) (mMs_e (mFe_q f1))) hs.2, fun _ => mMs_t (mMs_e (mFe_q f1)) hs.2⟩)))
    · rw [if_pos (show ¬ lg_cmp (fv_gl τ 7) 4542805 = 0 from fun e => c68 (EQ.1 e))]
      exact k174 (decide_eq_false (fun e => c68 e.2))
  · rw [if_pos (show ¬ fv_gi τ 3 = 2 from fun e => c1 (e3.1 e))]
    exact k174 (decide_eq_false (fun e => c1 e.1))
/-- whether lines are read -/
theorem m_done {N : Nat} (hN : 7000 ≤ N) {τ : fv_S} {I : List (Bool × Bool)} (h45 : fv_gi τ 45 = Int32.ofNat I.length) (hI : I.length ≤ 8) (hi : mIf I τ) : zX8_isDone N τ = fv_ri (q01 (qid I)) τ := by
  have lp : ∀ (J : List (Bool × Bool)), J.length ≤ I.length → mIf J τ → ∀ m, zX8_isDone_4 N (m + J.length) 1 0 τ = zX8_isDone_4 N m (q01 (qid J)) (Int32.ofNat J.length) τ := by
    intro J
    induction J with
    | nil => intro _ _ m; rfl
    | cons x J ih =>
      intro hl hj m
      have hl : J.length + 1 ≤ I.length := hl
      show zX8_isDone_4 N (m + (J.length + 1)) 1 0 τ = _
      rw [show m + (J.length + 1) = (m + 1) + J.length by omega, ih (by omega) hj.2.2 (m + 1)]
      show zX8_isDone_4_b N (zX8_isDone_4 N m) (q01 (qid J)) (Int32.ofNat J.length) τ = _
      obtain ⟨i1, i2⟩ := p_inN J.length 9 (by omega) (by omega)
      unfold zX8_isDone_4_b
      have g15 : fv_ga τ 15 (Int32.ofNat J.length) = q01 x.1 := by show fv_gw τ 15 (Int32.ofNat J.length).toNatClampNeg = _; rw [i2]; exact hj.1
      rw [h45, if_neg (fun e => by have := (p_leN _ _ (by omega) (by omega)).1 e; omega), if_pos i1, g15, p_sucN]
      have e : q01 (qid J) &&& q01 x.1 = q01 (qid (x :: J)) := by
        show _ = q01 (x.1 && qid J)
        cases qid J <;> cases x.1 <;> decide
      rw [e]; rfl
  unfold zX8_isDone
  obtain ⟨m, hm⟩ : ∃ m, N = (m + 1) + I.length := ⟨N - I.length - 1, by omega⟩
  rw [show zX8_isDone_4 N N 1 0 τ = zX8_isDone_4 N ((m + 1) + I.length) 1 0 τ by rw [← hm], lp I (Nat.le_refl _) hi (m + 1)]
  show zX8_isDone_4_b N (zX8_isDone_4 N m) (q01 (qid I)) (Int32.ofNat I.length) τ = _
  unfold zX8_isDone_4_b
  rw [h45, if_pos (Int32.le_refl _), if_pos (by cases qid I; exact Or.inl rfl; exact Or.inr rfl)]
noncomputable def m_rest (N : Nat) (σ8 : fv_S) : Option fv_O :=
      fv_bv (zX8_next N σ8) (fun σ10 =>
        if (fv_gi σ10 3) = (2 : Int32) then
          fv_bv (zX8_next N σ10) (fun σ11 =>
            fv_bi (zX8_isSign 58 σ11) (fun r13 σ12 =>
              if r13 = 0 then
                zX8_readLine_143 N (fv_gi σ10 4) (fv_gi σ10 5) (fv_gl σ10 7) σ12
              else
                fv_bi (zX8_tell N (fv_gi σ10 4) (fv_gi σ10 5) (fv_gl σ10 7) (fv_gi σ12 20) σ12) (fun r15 σ14 =>
                  if ¬ r15 = 0 then
                    fv_bv (zX8_next N σ14) (fun σ16 =>
                      if ¬ (fv_gi σ16 3) = (1 : Int32) then
                        if (fv_gi σ16 3) = (2 : Int32) then
                          fv_bv (zX8_next N σ16) (fun σ17 =>
                            zX8_readLine_143 N (fv_gi σ16 4) (fv_gi σ16 5) (fv_gl σ16 7) σ17) fv_no
                        else
                          fv_bi (zX8_refuse σ16) (fun r19 σ18 =>
                            if r19 = 0 ∨ r19 = 1 then fv_ri r19 σ18 else none) fv_no
                      else
                        fv_ri 1 σ16) fv_no
                  else
                    fv_ri 0 σ14) fv_no) fv_no) fv_no
        else
          if (fv_gi σ10 3) = (1 : Int32) then
            fv_ri 1 σ10
          else
            fv_bi (zX8_refuse σ10) (fun r22 σ21 =>
              if r22 = 0 then
                fv_ri 0 σ21
              else
                fv_ri 1 σ21) fv_no) fv_no
theorem m_line {B : Nat → Nat} {n N p : Nat} (hS : qS B n) (hN : 70000 ≤ N) {sec : Bool} {L : List (List Nat × Int32)} {h : Nat} {I : List (Bool × Bool)} {org : Nat} {M : qMem} {τ : fv_S} (z : mZ B n sec L h I org τ) (hp : p ≤ n) (g2 : fv_gi τ 2 = Int32.ofNat p) (hI : I.length ≤ 8) (hh6 : h ≤ 65536) (hM : sec = true → mMe M τ) (hB : sec = true → M.2.1 ≤ 2000000000 + h)
    (hst : sec = true → (qT B n (qLp B n p)).1 = 1 → qiq B n (qT B n (qLp B n p)).2.2.1 = false → qSk B n (qri (qna B (qT B n (qLp B n p)))) (qT B n (qLp B n p)).2.2.1) (hh : sec = true → (qLn B n sec L org h I M p).2.2.2.1 ≤ 65536) :
    mSo B n (qLfa B n sec L org h I M p) (qLn B n sec L org h I M p).2.1 (fun τ' => mZ B n sec (qLn B n sec L org h I M p).2.2.1 (qLn B n sec L org h I M p).2.2.2.1 (qLn B n sec L org h I M p).2.2.2.2.1 org τ' ∧ (sec = true → mMe (qLn B n sec L org h I M p).2.2.2.2.2 τ') ∧ (sec = false → mMs τ τ')) τ (m_rest N τ) := by
  have hn := hS.1
  have hN7 : 7000 ≤ N := by omega
  have hb := qT_b hS p hp
  obtain ⟨τ1, x1, f1, k1⟩ := m_nx (N := N) hS hN7 (by omega : p ≤ 6050) z.1 g2
  have z1 := mZ_q z f1
  have M1 : sec = true → mMe M τ1 := fun hs => mMe_s (hM hs) (mMs_e (mFe_q f1))
  have ms1 : mMs τ τ1 := mMs_e (mFe_q f1)
  have fo1 : mFo τ τ1 := mFo_q f1
  have e2 : fv_gi τ1 3 = 2 ↔ (qT B n p).1 = 1 := (m_k k1.1 2 (by omega)).trans (qmk_e (qT B n p).1).2.2.1
  have e1 : fv_gi τ1 3 = 1 ↔ (qT B n p).1 = 0 := (m_k k1.1 1 (by omega)).trans (qmk_e (qT B n p).1).2.1
  unfold m_rest qLfa
  rw [x1, fv_bv_rv]
  by_cases c1 : (qT B n p).1 = 1
  rotate_left
  · have eL : qLn B n sec L org h I M p = qSg B n sec L org h I M p := if_neg (fun e => c1 e.1)
    have eP : qLp B n p = p := if_neg (fun e => c1 e.1)
    rw [eL, eP, if_neg (fun e => c1 (e2.1 e))]
    by_cases c0 : (qT B n p).1 = 0
    · have eq : qSg B n sec L org h I M p = (none, .inr p, L, h, I, M) := if_pos c0
      rw [eq, if_pos (e1.2 c0)]
      show mSo B n (if (qT B n p).1 = 0 then (if 65536 < h then some (8, (qT B n p).2.1) else none) else _) _ _ _ _
      rw [if_pos c0, if_neg (by omega)]
      exact ⟨p, τ1, rfl, c0, hp, rfl, fo1, k1.1.1, z1, M1, fun _ => ms1⟩
    · have eq : qSg B n sec L org h I M p = (none, .inl (qwr (qT B n p), (qT B n p).2.1), L, h, I, M) := by unfold qSg; rw [if_neg c0, if_neg c1]
      rw [eq, if_neg (fun e => c0 (e1.1 e))]
      obtain ⟨τ2, y1, y2⟩ := mFx_f (mFt_rf z1.2.2.2.2.2.1 k1.1)
      rw [y1, fv_bi_ri, if_pos rfl]
      exact mFx_t fo1 ⟨τ2, rfl, y2⟩
  have b1 := hb.1
  have b2 := hb.2.2.2.1 (by omega) (by omega)
  have b3 := hb.2.2.1
  have hb2 := qT_b hS _ b3
  have g4 : fv_gi τ1 4 = Int32.ofNat (qT B n p).2.1 := k1.1.2.2.1
  have g5 : fv_gi τ1 5 = Int32.ofNat (qT B n p).2.2.1 := k1.2
  have g7 : fv_gl τ1 7 = qwd (qna B (qT B n p)) := by rw [k1.1.2.2.2.2.2, if_pos c1]; rfl
  obtain ⟨τ2, x2, f2, k2⟩ := m_go (N := N) hS hN7 hp z1.1 k1
  have z2 := mZ_q z1 f2
  have ms2 := mMs_t ms1 (mMs_e (mFe_q f2))
  have M2 : sec = true → mMe M τ2 := fun hs => mMe_s (hM hs) ms2
  have fo2 := mFo_t fo1 (mFo_q f2)
  rw [if_pos (e2.2 c1), x2, fv_bv_rv, show zX8_isSign 58 τ2 = _ from m_sgn hb2 k2.1 58 rfl, fv_bi_ri, g4, g5, g7]
  by_cases c58 : (qT B n (qT B n p).2.2.1).1 = 58
  rotate_left
  · have eL : qLn B n sec L org h I M p = qSg B n sec L org h I M p := if_neg (fun e => c58 e.2)
    have eP : qLp B n p = p := if_neg (fun e => c58 e.2)
    rw [eL] at hh ⊢
    rw [eP] at hst ⊢
    rw [show ((qT B n (qT B n p).2.2.1).1 == 58) = false by simp [c58], if_pos (show q01 false = 0 by decide)]
    exact mSo_t fo2 (mSo_p (m_143 (N := N) hS hN hp c1 z2 k2 hI hh6 M2 hB hst hh) (fun s _ hs => ⟨hs.1, hs.2.1, fun e => mMs_t ms2 (hs.2.2 e)⟩))
  rw [c58, if_neg (show ¬ q01 ((58 : Nat) == 58) = 0 by decide), z2.2.2.2.1]
  have eP : qLp B n p = (qT B n (qT B n p).2.2.1).2.2.1 := if_pos ⟨c1, c58⟩
  rw [eP] at hst ⊢
  have k12 := qT_12 c1
  have hz := (qna_nz hS c1).1
  -- behind the label
  have beh : ∀ (L' : List (List Nat × Int32)) (τ3 : fv_S), qLn B n sec L org h I M p = qSg B n sec L' org h I M (qT B n (qT B n p).2.2.1).2.2.1 → mZ B n sec L' h I org τ3 → mFo τ τ3 → mMs τ τ3 → qMt B (qT B n (qT B n p).2.2.1) τ3 →
      mSo B n (qLF B n (qLn B n sec L org h I M p).1 (qLn B n sec L org h I M p).2.1 (qLn B n sec L org h I M p).2.2.2.1 (qT B n (qT B n (qT B n p).2.2.1).2.2.1).2.1) (qLn B n sec L org h I M p).2.1 (fun τ' => mZ B n sec (qLn B n sec L org h I M p).2.2.1 (qLn B n sec L org h I M p).2.2.2.1 (qLn B n sec L org h I M p).2.2.2.2.1 org τ' ∧ (sec = true → mMe (qLn B n sec L org h I M p).2.2.2.2.2 τ') ∧ (sec = false → mMs τ τ')) τ
        (fv_bv (zX8_next N τ3) (fun σ16 => if ¬ (fv_gi σ16 3) = (1 : Int32) then if (fv_gi σ16 3) = (2 : Int32) then fv_bv (zX8_next N σ16) (fun σ17 => zX8_readLine_143 N (fv_gi σ16 4) (fv_gi σ16 5) (fv_gl σ16 7) σ17) fv_no else fv_bi (zX8_refuse σ16) (fun r19 σ18 => if r19 = 0 ∨ r19 = 1 then fv_ri r19 σ18 else none) fv_no else fv_ri 1 σ16) fv_no) := by
    intro L' τ3 eL z3 fo3 ms3 k3
    rw [eL] at hh ⊢
    have b3' := hb2.2.2.1
    obtain ⟨τ4, x4, f4, k4⟩ := m_go (N := N) hS hN7 b3 z3.1 k3
    have z4 := mZ_q z3 f4
    have ms4 := mMs_t ms3 (mMs_e (mFe_q f4))
    have M4 : sec = true → mMe M τ4 := fun hs => mMe_s (hM hs) ms4
    have fo4 := mFo_t fo3 (mFo_q f4)
    generalize (qT B n (qT B n p).2.2.1).2.2.1 = p2 at *
    have e2 : fv_gi τ4 3 = 2 ↔ (qT B n p2).1 = 1 := (m_k k4.1 2 (by omega)).trans (qmk_e (qT B n p2).1).2.2.1
    have e1 : fv_gi τ4 3 = 1 ↔ (qT B n p2).1 = 0 := (m_k k4.1 1 (by omega)).trans (qmk_e (qT B n p2).1).2.1
    rw [x4, fv_bv_rv]
    by_cases d0 : (qT B n p2).1 = 0
    · have eq : qSg B n sec L' org h I M p2 = (none, .inr p2, L', h, I, M) := if_pos d0
      rw [eq, if_neg (show ¬ ¬ fv_gi τ4 3 = 1 from not_not_intro (e1.2 d0))]
      show mSo B n (if (qT B n p2).1 = 0 then (if 65536 < h then some (8, (qT B n p2).2.1) else none) else _) _ _ _ _
      rw [if_pos d0, if_neg (by omega)]
      exact ⟨p2, τ4, rfl, d0, b3', rfl, fo4, k4.1.1, z4, M4, fun _ => ms4⟩
    rw [if_pos (show ¬ fv_gi τ4 3 = 1 from fun e => d0 (e1.1 e))]
    by_cases d1 : (qT B n p2).1 = 1
    · have h4 : fv_gi τ4 4 = Int32.ofNat (qT B n p2).2.1 := k4.1.2.2.1
      have h5 : fv_gi τ4 5 = Int32.ofNat (qT B n p2).2.2.1 := k4.2
      have h7 : fv_gl τ4 7 = qwd (qna B (qT B n p2)) := by rw [k4.1.2.2.2.2.2, if_pos d1]; rfl
      obtain ⟨τ5, x5, f5, k5⟩ := m_go (N := N) hS hN7 b3' z4.1 k4
      have ms5 := mMs_t ms4 (mMs_e (mFe_q f5))
      rw [if_pos (e2.2 d1), x5, fv_bv_rv, h4, h5, h7]
      exact mSo_t (mFo_t fo4 (mFo_q f5)) (mSo_p (m_143 (N := N) hS hN b3' d1 (mZ_q z4 f5) k5 hI hh6 (fun hs => mMe_s (hM hs) ms5) hB hst hh) (fun s _ hs => ⟨hs.1, hs.2.1, fun e => mMs_t ms5 (hs.2.2 e)⟩))
    · have eq : qSg B n sec L' org h I M p2 = (none, .inl (qwr (qT B n p2), (qT B n p2).2.1), L', h, I, M) := by unfold qSg; rw [if_neg d0, if_neg d1]
      rw [eq, if_neg (fun e => d1 (e2.1 e))]
      exact mFx_t fo4 (mFx_b (mFx_f (mFt_rf z4.2.2.2.2.2.1 k4.1)))
  unfold zX8_tell
  rw [z2.2.2.1]
  by_cases hs : sec = true
  · rw [if_neg (show ¬ q01 sec = 0 by rw [hs]; decide), fv_bi_ri, if_pos (show ¬ (1 : Int32) = 0 by decide)]
    refine beh L τ2 ?_ z2 fo2 ms2 k2
    unfold qLn
    rw [if_pos ⟨c1, c58⟩, if_neg (fun e => by rw [hs] at e; exact absurd e.1 (by decide)), if_pos hs]
  · have hs' : sec = false := by cases hx : sec; rfl; exact absurd hx hs
    rw [if_pos (show q01 sec = 0 by rw [hs']; rfl)]
    have bd := m_bdt (N := N) (q := (qT B n p).2.1) (k := (qT B n p).2.2.1 - (qT B n p).2.1) hS hN7 z2 (by omega) hz (fun s => zX8_tell_36 N (Int32.ofNat (qT B n p).2.1) s) (fun s => fv_bv (zX8_addName N (Int32.ofNat (qT B n p).2.1) (Int32.ofNat (qT B n p).2.2.1) (Int32.ofNat h) s) (fun σ8 => fv_ri 1 σ8) fv_no)
    rw [show (qT B n p).2.1 + ((qT B n p).2.2.1 - (qT B n p).2.1) = (qT B n p).2.2.1 by omega] at bd
    rw [show fv_bi (zX8_isReserved (qwd (qna B (qT B n p))) τ2) _ _ = _ from bd]
    cases hbd : qbd L (qna B (qT B n p)) with
    | true =>
      have eL : qLn B n sec L org h I M p = (none, .inl (3, (qT B n p).2.1), L, h, I, M) := by
        unfold qLn; rw [if_pos ⟨c1, c58⟩, if_pos ⟨hs', hbd⟩]
      rw [eL, show (if qbd L (qnm B (qT B n p).2.1 ((qT B n p).2.2.1 - (qT B n p).2.1)) = true then zX8_tell_36 N (Int32.ofNat (qT B n p).2.1) τ2 else fv_bv (zX8_addName N (Int32.ofNat (qT B n p).2.1) (Int32.ofNat (qT B n p).2.2.1) (Int32.ofNat h) τ2) (fun σ8 => fv_ri 1 σ8) fv_no) = zX8_tell_36 N (Int32.ofNat (qT B n p).2.1) τ2 from if_pos hbd]
      unfold zX8_tell_36
      have W := mFx_w z2.2.2.2.2.2.1 (3, (qT B n p).2.1) ⟨by show 1 ≤ 3; omega, by show 3 ≤ 9; omega⟩
      exact mFx_t fo2 (mFx_n W _)
    | false =>
      have hl : L.length < 200 := by
        have := z2.2.1.2.1
        have nb : ¬ (qri (qna B (qT B n p)) < 99 ∨ qlf (qna B (qT B n p)) L < L.length ∨ L.length = 200) := of_decide_eq_false hbd
        omega
      have hbd' : ¬ qbd L (qnm B (qT B n p).2.1 ((qT B n p).2.2.1 - (qT B n p).2.1)) = true := by
        show ¬ qbd L (qna B (qT B n p)) = true
        rw [hbd]; decide
      rw [show (if qbd L (qnm B (qT B n p).2.1 ((qT B n p).2.2.1 - (qT B n p).2.1)) = true then zX8_tell_36 N (Int32.ofNat (qT B n p).2.1) τ2 else fv_bv (zX8_addName N (Int32.ofNat (qT B n p).2.1) (Int32.ofNat (qT B n p).2.2.1) (Int32.ofNat h) τ2) (fun σ8 => fv_ri 1 σ8) fv_no) = fv_bv (zX8_addName N (Int32.ofNat (qT B n p).2.1) (Int32.ofNat (qT B n p).2.2.1) (Int32.ofNat h) τ2) (fun σ8 => fv_ri 1 σ8) fv_no from if_neg hbd']
      obtain ⟨τ3, x3, l3, f3⟩ := m_addN (N := N) (q := (qT B n p).2.1) (k := (qT B n p).2.2.1 - (qT B n p).2.1) hS hN7 (by omega) k12 z2.1 z2.2.1 hl (Int32.ofNat h)
      rw [show (qT B n p).2.1 + ((qT B n p).2.2.1 - (qT B n p).2.1) = (qT B n p).2.2.1 by omega] at x3
      rw [x3, fv_bv_rv, fv_bi_ri, if_pos (show ¬ (1 : Int32) = 0 by decide)]
      refine beh (L ++ [(qna B (qT B n p), Int32.ofNat h)]) τ3 ?_ (mZ_l z2 f3 l3) (mFo_l fo2 f3) (mMs_t ms2 (mMs_l f3)) ?_
      · unfold qLn
        rw [if_pos ⟨c1, c58⟩, if_neg (fun e => by rw [hbd] at e; exact absurd e.2 (by decide)), if_neg hs]
      · have g : ∀ j, j ≤ 6 → fv_gi τ3 j = fv_gi τ2 j := fun j hj => f3.1 j (by omega)
        refine ⟨⟨(g 2 (by omega)).trans k2.1.1, (g 3 (by omega)).trans k2.1.2.1, (g 4 (by omega)).trans k2.1.2.2.1, fun x => (g 6 (by omega)).trans (k2.1.2.2.2.1 x), fun x => (g 6 (by omega)).trans (k2.1.2.2.2.2.1 x), ?_⟩, (g 5 (by omega)).trans k2.2⟩
        show τ3.2.1 7 = _
        rw [f3.2.1]; exact k2.1.2.2.2.2.2
