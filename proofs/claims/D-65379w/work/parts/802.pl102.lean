set_option maxRecDepth 100000
set_option maxHeartbeats 4000000
/-! The plain law: the class reads a line. -/
theorem xZ_48 {B : Nat → Nat} {n : Nat} {sec : Bool} {L : List (List Nat × Int32)} {h : Nat} {I : List (Bool × Bool)} {org : Nat} {σ : fv_S} (z : xZ B n sec L h I org σ) (v : Int32) : xZ B n sec L h I org (fv_si σ 1548 v) := by
  obtain ⟨z1, z2, z3, z4, z5, z6, z7, z8, z9⟩ := z
  exact ⟨⟨z1.1, z1.2⟩, ⟨z2.1, z2.2⟩, z3, z4, z5, z6, z7, z8, xIf_c I σ _ (fun _ _ => ⟨rfl, rfl, rfl⟩) z9⟩
theorem xP_post {B : Nat → Nat} {n : Nat} {sec : Bool} {L : List (List Nat × Int32)} {h : Nat} {I : List (Bool × Bool)} {org : Nat} {M : qMem} (s s' : fv_S) (H : xZ B n sec L h I org s ∧ (sec = true → xMe M s)) (f : qGx s s') : xZ B n sec L h I org s' ∧ (sec = true → xMe M s') := ⟨xZ_g H.1 f, fun hs => xMe_s (H.2 hs) (xMs_g f)⟩
/-- the statement of a line, to its end -/
theorem x_dli {B : Nat → Nat} {n N p : Nat} (hS : qS B n) (hN : 70000 ≤ N) {sec : Bool} {L : List (List Nat × Int32)} {h : Nat} {I : List (Bool × Bool)} {org : Nat} {M : qMem} {σ : fv_S} (z : xZ B n sec L h I org σ) (ha : xAt B n p σ) (hR : xR none σ) (hF : pFm σ) (hI : I.length ≤ 8) (hd : qid I = true) (hh6 : h ≤ 65536) (hM : sec = true → xMe M σ)
    (hst : sec = true → (qT B n p).1 = 1 → qiq B n (qT B n p).2.2.1 = false → qSk B n (qri (qna B (qT B n p))) (qT B n p).2.2.1) (hh : sec = true → (qSg B n sec L org h I M p).2.2.2.1 ≤ 65536) (h31 : (qSg B n sec L org h I M p).2.2.2.1 < 2147483648) :
    xLo B n (qLF B n (qSg B n sec L org h I M p).1 (qSg B n sec L org h I M p).2.1 (qSg B n sec L org h I M p).2.2.2.1 (qT B n p).2.1) (qSg B n sec L org h I M p).2.1 (fun σ' => xZ B n sec (qSg B n sec L org h I M p).2.2.1 (qSg B n sec L org h I M p).2.2.2.1 (qSg B n sec L org h I M p).2.2.2.2.1 org σ' ∧ (sec = true → xMe (qSg B n sec L org h I M p).2.2.2.2.2 σ')) σ (zX3_doLine_82 N σ) := by
  have hn := hS.1
  have hN7 : 7000 ≤ N := by omega
  have hp := ha.1
  have hb := qT_b hS p hp
  obtain ⟨σ1, x1, f1, k1⟩ := x_end (N := N) hS hN7 z.1 ha
  have z1 := xZ_g z f1
  have r1 : xR none σ1 := xR_c hR (f1.1 1563 (by omega)) (f1.1 1564 (by omega))
  have M1 : sec = true → xMe M σ1 := fun hs => xMe_s (hM hs) (xMs_g f1)
  have F1 : pFm σ1 := pFm_c hF (f1.1 391 (by omega)) (fun k _ _ => by show σ1.2.2.1 k = _; rw [f1.2])
  unfold zX3_doLine_82 zX3_statement
  rw [x1, fv_bi_ri]
  by_cases c0 : (qT B n p).1 = 0
  · -- nothing
    have eq : qSg B n sec L org h I M p = (none, .inr p, L, h, I, M) := if_pos c0
    rw [eq, c0, if_neg (show ¬ q01 ((0 : Nat) == 0) = 0 by decide), fv_bv_rv]
    obtain ⟨σ2, x2, f2, k2⟩ := x_end (N := N) hS hN7 z1.1 (xAt_of hp k1)
    have z2 := xZ_g z1 f2
    rw [x2, fv_bi_ri, c0, if_pos (show ¬ q01 ((0 : Nat) == 0) = 0 by decide), z2.2.2.2.2.1, if_pos (show Int32.ofNat h ≤ 65536 from (p_leN h 65536 (by omega) (by omega)).2 hh6)]
    show xLo B n (if (qT B n p).1 = 0 then (if 65536 < h then some (8, (qT B n p).2.1) else none) else _) _ _ _ _
    rw [if_pos c0, if_neg (by omega)]
    have f12 := qGx_t f1 f2
    exact ⟨p, σ2, rfl, c0, hp, rfl, qGx_n f12, xFo_g f12, z2.1, k2, xR_c r1 (f2.1 1563 (by omega)) (f2.1 1564 (by omega)), z2, fun hs => xMe_s (M1 hs) (xMs_g f2)⟩
  rw [show ((qT B n p).1 == 0) = false by simp [c0], if_pos (show q01 false = 0 by decide), k1.2.1]
  by_cases c1 : (qT B n p).1 = 1
  rotate_left
  · have eq : qSg B n sec L org h I M p = (none, .inl (qwr (qT B n p), (qT B n p).2.1), L, h, I, M) := by unfold qSg; rw [if_neg c0, if_neg c1]
    rw [eq, if_neg (show ¬ qxk n (qT B n p) = 1 from fun e => c1 ((qxk_ne hb 1 (by omega) (by omega) (by omega)).1 e)), x_wrong hb k1, fv_ba_ra, fv_bv_th]
    have wr : 1 ≤ qwr (qT B n p) ∧ qwr (qT B n p) ≤ 2 := by unfold qwr; split <;> omega
    exact xLo_th (qwr (qT B n p), (qT B n p).2.1) (qGx_n f1) (xFo_g f1) ⟨wr.1, by show qwr (qT B n p) ≤ 9; omega, by show (qT B n p).2.1 ≤ 6000; have := hb.2.1; omega⟩ r1
  rw [if_pos (show qxk n (qT B n p) = 1 from (qxk_ne hb 1 (by omega) (by omega) (by omega)).2 c1), x_res hS hN7 hb z1.1 k1 c1, fv_bi_ri, k1.2.2.1, k1.2.2.2.1 (by omega) (by omega)]
  have b1 := hb.1
  have b2 := hb.2.2.2.1 (by omega) (by omega)
  have b3 := hb.2.2.1
  have k12 := qT_12 c1
  -- the word's place is kept
  have z2 := xZ_48 z1 (Int32.ofNat (qT B n p).2.1)
  have k2 : qXt n (qT B n p) (fv_si σ1 1548 (Int32.ofNat (qT B n p).2.1)) := ⟨k1.1, k1.2.1, k1.2.2.1, k1.2.2.2.1, k1.2.2.2.2.1, k1.2.2.2.2.2⟩
  have g48 : fv_gi (fv_si σ1 1548 (Int32.ofNat (qT B n p).2.1)) 1548 = Int32.ofNat (qT B n p).2.1 := rfl
  have fo2 : xFo σ (fv_si σ1 1548 (Int32.ofNat (qT B n p).2.1)) := xFo_si (xFo_g f1) 1548 _ (by omega)
  have n2 : fv_n (fv_si σ1 1548 (Int32.ofNat (qT B n p).2.1)) = fv_n σ := (show fv_n σ1 = fv_n σ from qGx_n f1)
  have r2 : xR none (fv_si σ1 1548 (Int32.ofNat (qT B n p).2.1)) := r1
  have M2 : sec = true → xMe M (fv_si σ1 1548 (Int32.ofNat (qT B n p).2.1)) := fun hs => xMe_s (M1 hs) ⟨rfl, rfl, rfl, rfl⟩
  have F2 : pFm (fv_si σ1 1548 (Int32.ofNat (qT B n p).2.1)) := pFm_c F1 rfl (fun _ _ _ => rfl)
  generalize fv_si σ1 1548 (Int32.ofNat (qT B n p).2.1) = σ2 at z2 k2 g48 fo2 n2 r2 M2 F2 ⊢
  obtain ⟨σ3, x3, f3, a3, g67, g68⟩ := x_pass (B := B) hb k2 (by omega) (by omega)
  have z3 := xZ_g z2 f3
  have r3 : xR none σ3 := xR_c r2 (f3.1 1563 (by omega)) (f3.1 1564 (by omega))
  have M3 : sec = true → xMe M σ3 := fun hs => xMe_s (M2 hs) (xMs_g f3)
  have F3 : pFm σ3 := pFm_c F2 (f3.1 391 (by omega)) (fun k _ _ => by show σ3.2.2.1 k = _; rw [f3.2])
  have e48 : fv_gi σ3 1548 = Int32.ofNat (qT B n p).2.1 := (f3.1 1548 (by omega)).trans g48
  have fo3 := xFo_t fo2 (xFo_g f3)
  have n3 : fv_n σ3 = fv_n σ := (qGx_n f3).trans n2
  rw [x3, fv_bv_rv, e48]
  cases hq : qiq B n (qT B n p).2.2.1 with
  | true =>
    have eq : qSg B n sec L org h I M p = (qEqG B n (qT B n p).2.2.1 sec L org (qna B (qT B n p)), qEqO B n (qT B n p).2.2.1 sec L (qna B (qT B n p)) (qT B n p).2.1, qEqL B n (qT B n p).2.2.1 sec L org (qna B (qT B n p)), h, I, M) := by unfold qSg; rw [if_neg c0, if_pos c1, if_pos hq]
    rw [eq] at h31 ⊢
    have R := x_equ (N := N) hS hN7 z3 b3 g68 g67 r3 hh6 (q := (qT B n p).2.1) (k := (qT B n p).2.2.1 - (qT B n p).2.1) (by omega) k12 hq (fun σ11 => x_disp N (qxi (qri (qna B (qT B n p))) 99) σ11)
    have R2 := xSo_p R (post' := fun σ' => xZ B n sec (qEqL B n (qT B n p).2.2.1 sec L org (qna B (qT B n p))) h I org σ' ∧ (sec = true → xMe M σ')) (fun s p' _ _ hs => ⟨hs.1, fun h1 => xMe_s (M3 h1) hs.2⟩)
    exact xLo_t fo3 n3 (x_82 (N := N) hS hN7 (fun s s' => xP_post s s') (fun s hs => hs.1.2.2.2.2.1) h31 e48 (by omega) R2)
  | false =>
    have eq : qSg B n sec L org h I M p = qSw B n sec (qri (qna B (qT B n p))) (qT B n p).2.1 L org h I M (qT B n p).2.2.1 := by unfold qSg; rw [if_neg c0, if_pos c1, if_neg (by rw [hq]; decide)]
    rw [eq] at hh h31 ⊢
    rw [x_equ0 hS hN7 z3.1 b3 g67 hq, fv_bi_ri, if_pos rfl]
    have R := x_word (w := qri (qna B (qT B n p))) (q := (qT B n p).2.1) hS hN (qri_le _) z3 a3 r3 F3 hI hd e48 b2 hh6 M3 (fun hs => hst hs c1 hq) hh
    exact xLo_t fo3 n3 (x_82 (N := N) hS hN7 (fun s s' => xP_post s s') (fun s hs => hs.1.2.2.2.2.1) h31 e48 (by omega) R)
/-- a line: its fault, its outcome, what holds behind it -/
noncomputable def qLn (B : Nat → Nat) (n : Nat) (sec : Bool) (L : List (List Nat × Int32)) (org h : Nat) (I : List (Bool × Bool)) (M : qMem) (p : Nat) : qSt :=
  if (qT B n p).1 = 1 ∧ (qT B n (qT B n p).2.2.1).1 = 58 then
    (if sec = false ∧ qbd L (qna B (qT B n p)) = true then (none, .inl (3, (qT B n p).2.1), L, h, I, M) else qSg B n sec (if sec = true then L else L ++ [(qna B (qT B n p), Int32.ofNat h)]) org h I M (qT B n (qT B n p).2.2.1).2.2.1)
  else qSg B n sec L org h I M p
/-- where a line's statement begins -/
noncomputable def qLp (B : Nat → Nat) (n p : Nat) : Nat := if (qT B n p).1 = 1 ∧ (qT B n (qT B n p).2.2.1).1 = 58 then (qT B n (qT B n p).2.2.1).2.2.1 else p
noncomputable def qLfa (B : Nat → Nat) (n : Nat) (sec : Bool) (L : List (List Nat × Int32)) (org h : Nat) (I : List (Bool × Bool)) (M : qMem) (p : Nat) : Option (Nat × Nat) := qLF B n (qLn B n sec L org h I M p).1 (qLn B n sec L org h I M p).2.1 (qLn B n sec L org h I M p).2.2.2.1 (qT B n (qLp B n p)).2.1
theorem x_line {B : Nat → Nat} {n N p : Nat} (hS : qS B n) (hN : 70000 ≤ N) {sec : Bool} {L : List (List Nat × Int32)} {h : Nat} {I : List (Bool × Bool)} {org : Nat} {M : qMem} {σ : fv_S} (z : xZ B n sec L h I org σ) (ha : xAt B n p σ) (hR : xR none σ) (hF : pFm σ) (hI : I.length ≤ 8) (hd : qid I = true) (hh6 : h ≤ 65536) (hM : sec = true → xMe M σ)
    (hst : sec = true → (qT B n (qLp B n p)).1 = 1 → qiq B n (qT B n (qLp B n p)).2.2.1 = false → qSk B n (qri (qna B (qT B n (qLp B n p)))) (qT B n (qLp B n p)).2.2.1) (hh : sec = true → (qLn B n sec L org h I M p).2.2.2.1 ≤ 65536) (h31 : (qLn B n sec L org h I M p).2.2.2.1 < 2147483648) :
    xRd B n (qLfa B n sec L org h I M p) (qLn B n sec L org h I M p).2.1 (fun σ' => xZ B n sec (qLn B n sec L org h I M p).2.2.1 (qLn B n sec L org h I M p).2.2.2.1 (qLn B n sec L org h I M p).2.2.2.2.1 org σ' ∧ (sec = true → xMe (qLn B n sec L org h I M p).2.2.2.2.2 σ')) σ (zX3_readLine N σ) := by
  have hn := hS.1
  have hN7 : 7000 ≤ N := by omega
  have hp := ha.1
  have hb := qT_b hS p hp
  unfold zX3_readLine
  refine x_rl ?_
  unfold zX3_doLine qLfa
  obtain ⟨σ1, x1, f1, k1⟩ := x_look (N := N) hS hN7 z.1 ha
  have z1 := xZ_g z f1
  have r1 : xR none σ1 := xR_c hR (f1.1 1563 (by omega)) (f1.1 1564 (by omega))
  have M1 : sec = true → xMe M σ1 := fun hs => xMe_s (hM hs) (xMs_g f1)
  have F1 : pFm σ1 := pFm_c hF (f1.1 391 (by omega)) (fun k _ _ => by show σ1.2.2.1 k = _; rw [f1.2])
  rw [x1, fv_bi_ri]
  by_cases c1 : (qT B n p).1 = 1
  rotate_left
  · have e1 : qLn B n sec L org h I M p = qSg B n sec L org h I M p := if_neg (fun e => c1 e.1)
    have e2 : qLp B n p = p := if_neg (fun e => c1 e.1)
    rw [e1] at hh h31 ⊢
    rw [e2] at hst ⊢
    rw [if_pos (show ¬ qxk n (qT B n p) = 1 from fun e => c1 ((qxk_ne hb 1 (by omega) (by omega) (by omega)).1 e))]
    exact xLo_t (xFo_g f1) (qGx_n f1) (x_dli hS hN z1 (xAt_of hp k1) r1 F1 hI hd hh6 M1 hst hh h31)
  rw [if_neg (show ¬ ¬ qxk n (qT B n p) = 1 from not_not_intro ((qxk_ne hb 1 (by omega) (by omega) (by omega)).2 c1))]
  have b1 := hb.1
  have b2 := hb.2.2.2.1 (by omega) (by omega)
  have b3 := hb.2.2.1
  have k12 := qT_12 c1
  obtain ⟨σ2, x2, f2, a2, g67, g68⟩ := x_pass (B := B) hb k1 (by omega) (by omega)
  have z2 := xZ_g z1 f2
  have r2 : xR none σ2 := xR_c r1 (f2.1 1563 (by omega)) (f2.1 1564 (by omega))
  have M2 : sec = true → xMe M σ2 := fun hs => xMe_s (M1 hs) (xMs_g f2)
  have F2 : pFm σ2 := pFm_c F1 (f2.1 391 (by omega)) (fun k _ _ => by show σ2.2.2.1 k = _; rw [f2.2])
  have f12 := qGx_t f1 f2
  rw [x2, fv_bv_rv, x_isB hS hN7 z2.1 b3 g67, fv_bi_ri, k1.2.2.1, k1.2.2.2.1 (by omega) (by omega)]
  by_cases c58 : (qT B n (qT B n p).2.2.1).1 = 58
  rotate_left
  · have e1 : qLn B n sec L org h I M p = qSg B n sec L org h I M p := if_neg (fun e => c58 e.2)
    have e2 : qLp B n p = p := if_neg (fun e => c58 e.2)
    rw [e1] at hh h31 ⊢
    rw [e2] at hst ⊢
    rw [show ((qT B n (qT B n p).2.2.1).1 == 58) = false by simp [c58], if_pos (show q01 false = 0 by decide)]
    have hpl : (qT B n p).2.1 ≤ n := hb.2.1
    obtain ⟨σ3, x3, f3, a3⟩ := x_back (B := B) (n := n) hpl σ2
    have z3 := xZ_g z2 f3
    rw [x3, fv_bv_rv]
    -- the token at its own place is the token
    have tp : qT B n (qT B n p).2.1 = qT B n p := (qT_pl hS (by omega)).1
    have sg : qSg B n sec L org h I M (qT B n p).2.1 = qSg B n sec L org h I M p := by
      have c0' : ¬ (qT B n p).1 = 0 := by omega
      unfold qSg; rw [tp, if_neg c0', if_neg c0']
    have R := x_dli hS hN z3 a3 (xR_c r2 (f3.1 1563 (by omega)) (f3.1 1564 (by omega))) (pFm_c F2 (f3.1 391 (by omega)) (fun k _ _ => by show σ3.2.2.1 k = _; rw [f3.2])) hI hd hh6 (fun hs => xMe_s (M2 hs) (xMs_g f3)) (by rw [tp]; exact hst) (by rw [sg]; exact hh) (by rw [sg]; exact h31)
    rw [sg, tp] at R
    have f123 := qGx_t f12 f3
    exact xLo_t (xFo_g f123) (qGx_n f123) R
  -- a label
  rw [c58, if_neg (show ¬ q01 ((58 : Nat) == 58) = 0 by decide)]
  have hb2 := qT_b hS _ b3
  obtain ⟨σ3, x3, f3, k3⟩ := x_look (N := N) hS hN7 z2.1 a2
  have z3 := xZ_g z2 f3
  have r3 : xR none σ3 := xR_c r2 (f3.1 1563 (by omega)) (f3.1 1564 (by omega))
  have M3 : sec = true → xMe M σ3 := fun hs => xMe_s (M2 hs) (xMs_g f3)
  have F3 : pFm σ3 := pFm_c F2 (f3.1 391 (by omega)) (fun k _ _ => by show σ3.2.2.1 k = _; rw [f3.2])
  have f123 := qGx_t f12 f3
  rw [x3, fv_bi_ri, z3.2.2.2.2.1]
  obtain ⟨T1, T2, T3, _⟩ := x_tlb (N := N) hS hN7 z3 (q := (qT B n p).2.1) (k := (qT B n p).2.2.1 - (qT B n p).2.1) (by omega) k12 (Int32.ofNat h)
  have e2 : qLp B n p = (qT B n (qT B n p).2.2.1).2.2.1 := if_pos ⟨c1, c58⟩
  rw [e2] at hst ⊢
  -- behind the label
  have beh : ∀ (L' : List (List Nat × Int32)) (σ4 : fv_S), qLn B n sec L org h I M p = qSg B n sec L' org h I M (qT B n (qT B n p).2.2.1).2.2.1 → xZ B n sec L' h I org σ4 → xFo σ σ4 → fv_n σ4 = fv_n σ → xR none σ4 → (sec = true → xMe M σ4) → pFm σ4 → qXt n (qT B n (qT B n p).2.2.1) σ4 →
      xLo B n (qLF B n (qLn B n sec L org h I M p).1 (qLn B n sec L org h I M p).2.1 (qLn B n sec L org h I M p).2.2.2.1 (qT B n (qT B n (qT B n p).2.2.1).2.2.1).2.1) (qLn B n sec L org h I M p).2.1 (fun σ' => xZ B n sec (qLn B n sec L org h I M p).2.2.1 (qLn B n sec L org h I M p).2.2.2.1 (qLn B n sec L org h I M p).2.2.2.2.1 org σ' ∧ (sec = true → xMe (qLn B n sec L org h I M p).2.2.2.2.2 σ')) σ (fv_bv (zX4_pass σ4) (fun σ21 => zX3_doLine_82 N σ21) fv_no) := by
    intro L' σ4 e1 z4 fo4 n4 r4 M4 F4 k4
    rw [e1] at hh h31 ⊢
    obtain ⟨σ5, x5, f5, a5, _⟩ := x_pass (B := B) hb2 k4 (by omega) (by omega)
    rw [x5, fv_bv_rv]
    exact xLo_t (xFo_t fo4 (xFo_g f5)) ((qGx_n f5).trans n4) (x_dli hS hN (xZ_g z4 f5) a5 (xR_c r4 (f5.1 1563 (by omega)) (f5.1 1564 (by omega))) (pFm_c F4 (f5.1 391 (by omega)) (fun k _ _ => by show σ5.2.2.1 k = _; rw [f5.2])) hI hd hh6 (fun hs => xMe_s (M4 hs) (xMs_g f5)) hst hh h31)
  by_cases hs : sec = true
  · rw [T1 hs, fv_bv_rv]
    refine beh L σ3 ?_ z3 (xFo_g f123) (qGx_n f123) r3 M3 F3 k3
    unfold qLn
    rw [if_pos ⟨c1, c58⟩, if_neg (fun e => by rw [hs] at e; exact absurd e.1 (by decide)), if_pos hs]
  · have hs' : sec = false := by cases hx : sec; rfl; exact absurd hx hs
    cases hbd : qbd L (qna B (qT B n p)) with
    | true =>
      rw [T2 hs' hbd, fv_bv_th]
      have e1 : qLn B n sec L org h I M p = (none, .inl (3, (qT B n p).2.1), L, h, I, M) := by
        unfold qLn; rw [if_pos ⟨c1, c58⟩, if_pos ⟨hs', hbd⟩]
      rw [e1]
      exact xLo_th (3, (qT B n p).2.1) (qGx_n f123) (xFo_g f123) ⟨by show 1 ≤ 3; omega, by show 3 ≤ 9; omega, by show (qT B n p).2.1 ≤ 6000; omega⟩ r3
    | false =>
      obtain ⟨σ4, x4, z4, f4⟩ := T3 hs' hbd r3
      rw [x4, fv_bv_rv]
      refine beh (L ++ [(qna B (qT B n p), Int32.ofNat h)]) σ4 ?_ z4 (xFo_l (xFo_g f123) f4) (f4.2.2.2.trans (qGx_n f123)) (xR_c r3 (f4.1 _ (by omega)) (f4.1 _ (by omega))) (fun e => absurd e hs) (pFm_c F3 (f4.1 391 (by omega)) (fun k h1 h2 => f4.2.2.1 k (by omega) (by omega) (by omega))) ?_
      · unfold qLn
        rw [if_pos ⟨c1, c58⟩, if_neg (fun e => by rw [hbd] at e; exact absurd e.2 (by decide)), if_neg hs]
      · have g : ∀ j, 1667 ≤ j → j ≤ 1672 → fv_gi σ4 j = fv_gi σ3 j := fun j h1 h2 => f4.1 j (by omega)
        exact ⟨(g 1668 (by omega) (by omega)).trans k3.1, (g 1669 (by omega) (by omega)).trans k3.2.1, (g 1670 (by omega) (by omega)).trans k3.2.2.1, fun a b => (g 1671 (by omega) (by omega)).trans (k3.2.2.2.1 a b), fun a => (g 1667 (by omega) (by omega)).trans (k3.2.2.2.2.1 a), fun a => (g 1672 (by omega) (by omega)).trans (k3.2.2.2.2.2 a)⟩
