set_option maxRecDepth 100000
set_option maxHeartbeats 4000000
/-! The plain law: the class's pass. -/
theorem xZ_65 {B : Nat → Nat} {n : Nat} {sec : Bool} {L : List (List Nat × Int32)} {h : Nat} {I : List (Bool × Bool)} {org : Nat} {σ : fv_S} (z : xZ B n sec L h I org σ) (k : Nat) : xZ B n sec L h I k (fv_si σ 1565 (Int32.ofNat k)) := by
  obtain ⟨z1, z2, z3, z4, z5, z6, z7, z8, z9⟩ := z
  exact ⟨⟨z1.1, z1.2⟩, ⟨z2.1, z2.2⟩, z3, z4, z5, rfl, z7, z8, xIf_c I σ _ (fun _ _ => ⟨rfl, rfl, rfl⟩) z9⟩
theorem xZ_go {B : Nat → Nat} {n : Nat} {sec : Bool} {L : List (List Nat × Int32)} {h : Nat} {I : List (Bool × Bool)} {σ : fv_S} (z : xZ B n sec L h I h (fv_si σ 1565 (Int32.ofNat h))) (v : Int32) : xZ B n sec L h I h (fv_si (fv_si (fv_si σ 1544 v) 1563 0) 1565 (Int32.ofNat h)) := by
  obtain ⟨z1, z2, z3, z4, z5, z6, z7, z8, z9⟩ := z
  exact ⟨⟨z1.1, z1.2⟩, ⟨z2.1, z2.2⟩, z3, z4, z5, rfl, z7, z8, xIf_c I (fv_si σ 1565 (Int32.ofNat h)) _ (fun _ _ => ⟨rfl, rfl, rfl⟩) z9⟩
def xFq (σ σ' : fv_S) : Prop := (∀ k, (k < 1541 ∨ 1565 < k) → (k < 1667 ∨ 1672 < k) → k ≠ 2051 → fv_gi σ' k = fv_gi σ k) ∧ (σ'.2.1 = σ.2.1 ∧ xB17 σ σ') ∧ (∀ a, a < 15 ∨ 29 < a → fv_gw σ' a = fv_gw σ a)
theorem xFq_r (σ : fv_S) : xFq σ σ := ⟨fun _ _ _ _ => rfl, ⟨rfl, fun b => b⟩, fun _ _ => rfl⟩
theorem xFq_t {a b c : fv_S} (h : xFq a b) (g : xFq b c) : xFq a c := ⟨fun k h1 h2 h3 => (g.1 k h1 h2 h3).trans (h.1 k h1 h2 h3), ⟨g.2.1.1.trans h.2.1.1, xB17_t h.2.1.2 g.2.1.2⟩, fun k hk => (g.2.2 k hk).trans (h.2.2 k hk)⟩
theorem xFq_o {a b : fv_S} (h : xFo a b) : xFq a b := ⟨fun k h1 h2 h3 => h.1 k (by omega) h2 h3, h.2.1, h.2.2⟩
theorem xFq_si {a b : fv_S} (h : xFq a b) (k : Nat) (v : Int32) (hk : 1541 ≤ k ∧ k ≤ 1565 ∨ 1667 ≤ k ∧ k ≤ 1672 ∨ k = 2051) : xFq a (fv_si b k v) := ⟨fun j h1 h2 h3 => (if_neg (show j ≠ k by omega)).trans (h.1 j h1 h2 h3), ⟨h.2.1.1, h.2.1.2⟩, h.2.2⟩
theorem xFq_sc {a b : fv_S} (h : xFq a b) : xFq a (fv_sc b) := ⟨h.1, ⟨h.2.1.1, h.2.1.2⟩, h.2.2⟩
/-- how a pass ends in the class -/
def xPo (B : Nat → Nat) (n : Nat) (sec : Bool) (r : qPr) (σ : fv_S) (out : Option fv_O) : Prop := match r with
  | .inl g => ∃ σ', out = fv_th (Int32.ofNat g.2.1) (Int32.ofNat g.2.2) σ' ∧ fv_n σ' ≤ fv_n σ + 2 ∧ xFq σ σ' ∧ fv_gi σ' 1544 = Int32.ofNat g.1
  | .inr g => ∃ σ', out = fv_rv σ' ∧ fv_n σ' = fv_n σ ∧ xFq σ σ' ∧ xZ B n sec g.2.1 g.2.2.1 [] g.2.2.1 (fv_si σ' 1565 (Int32.ofNat g.2.2.1)) ∧ fv_gi σ' 1544 = Int32.ofNat g.1 ∧ (sec = true → xMe g.2.2.2 σ')
theorem xPo_t {B : Nat → Nat} {n : Nat} {sec : Bool} {r : qPr} {σ0 σ : fv_S} {out : Option fv_O} (f : xFq σ0 σ) (fn : fv_n σ = fv_n σ0) (h : xPo B n sec r σ out) : xPo B n sec r σ0 out := by
  cases r with
  | inl g => obtain ⟨σ', h1, h2, h3, h4⟩ := h; exact ⟨σ', h1, by omega, xFq_t f h3, h4⟩
  | inr g => obtain ⟨σ', h1, h2, h3, h4⟩ := h; exact ⟨σ', h1, h2.trans fn, xFq_t f h3, h4⟩
theorem x_ps {B : Nat → Nat} {n N : Nat} (hS : qS B n) (hN : 70000 ≤ N) {sec : Bool} : ∀ (f ln p : Nat) (L : List (List Nat × Int32)) (h : Nat) (I : List (Bool × Bool)) (M : qMem) (m : Nat) (σ : fv_S), 301 - ln ≤ f → ln ≤ 300 → 302 - ln ≤ m → p ≤ n → h ≤ 65536 → I.length ≤ 8 → xZ B n sec L h I h (fv_si σ 1565 (Int32.ofNat h)) → fv_gi σ 1667 = Int32.ofNat p → fv_gi σ 1668 = 0 → fv_gi σ 1544 = Int32.ofNat ln → pFm σ → (sec = true → xMe M σ) → (sec = true → ∃ L1 M1 r, qPs B n false f ln p L1 h I M1 = .inr r ∧ r.2.1 = L) →
    xPo B n sec (qPs B n sec f ln p L h I M) σ (zX3_pass_44 N m σ) := by
  have hn := hS.1
  have hN7 : 7000 ≤ N := by omega
  have nx : ∀ e, e ≤ n → qnx n e ≤ n := fun e he => by unfold qnx; split <;> omega
  intro f
  induction f with
  | zero => intro ln p L h I M m σ hf hln; omega
  | succ f ih =>
    intro ln p L h I M m σ hf hln hm hp h6 hI z g67 g68 g44 hF hM hG
    obtain ⟨m, rfl⟩ : ∃ j, m = j + 1 := ⟨m - 1, by omega⟩
    have z0 := z
    obtain ⟨z1, z2, z3, z4, z5, z6, z7, z8, z9⟩ := z
    have z5' : fv_gi σ 1543 = Int32.ofNat h := z5
    have z8' : fv_gi σ 1559 = Int32.ofNat I.length := z8
    have z1' : fv_gi σ 1665 = Int32.ofNat n := z1.1
    show xPo B n sec _ σ (zX3_pass_44_b N (zX3_pass_44 N m) σ)
    unfold zX3_pass_44_b
    rw [z1', g67, z8', g44, z5']
    have enp : Int32.ofNat n ≤ Int32.ofNat p ↔ n ≤ p := p_leN n p (by omega) (by omega)
    by_cases c : n ≤ p
    · rw [qPs_e c, if_pos (enp.2 c)]
      by_cases c0 : I.length = 0
      · have hI0 : I = [] := List.length_eq_zero_iff.1 c0
        rw [if_pos c0, if_pos (show Int32.ofNat I.length ≤ 0 by rw [c0]; decide)]
        subst hI0
        exact ⟨σ, rfl, rfl, xFq_r σ, z0, g44, hM⟩
      · rw [if_neg c0, if_neg (show ¬ Int32.ofNat I.length ≤ 0 from fun e => by have := (p_leN I.length 0 (by omega) (by omega)).1 e; omega)]
        exact ⟨fv_sc σ, rfl, by show fv_n σ + 1 ≤ _; omega, xFq_sc (xFq_r σ), g44⟩
    rw [if_neg (fun e => c (enp.1 e)), p_sucN]
    have e300 : Int32.ofNat (ln + 1) ≤ 300 ↔ ln + 1 ≤ 300 := p_leN (ln + 1) 300 (by omega) (by omega)
    by_cases d : ln + 1 ≤ 300
    rotate_left
    · rw [qPs_9 c d, if_neg (fun e => d (e300.1 e))]
      exact ⟨_, rfl, by show fv_n σ + 1 ≤ _; omega, xFq_sc (xFq_si (xFq_r σ) 1544 _ (by omega)), rfl⟩
    obtain ⟨i1, i2⟩ := p_inN I.length 9 (by omega) (by omega)
    have g27 : fv_ga σ 27 (Int32.ofNat I.length) = q01 (qid I) := by
      show fv_gw σ 27 (Int32.ofNat I.length).toNatClampNeg = _
      rw [i2]
      cases I with
      | nil => exact z9
      | cons x I => exact z9.1
    rw [if_pos (e300.2 d), if_pos i1, g27]
    -- the line begins
    have zz := xZ_go z0 (Int32.ofNat (ln + 1))
    have s44 : fv_gi (fv_si (fv_si (fv_si σ 1544 (Int32.ofNat (ln + 1))) 1563 0) 1565 (Int32.ofNat h)) 1544 = Int32.ofNat (ln + 1) := rfl
    have s67 : fv_gi (fv_si (fv_si (fv_si σ 1544 (Int32.ofNat (ln + 1))) 1563 0) 1565 (Int32.ofNat h)) 1667 = Int32.ofNat p := g67
    have s68 : fv_gi (fv_si (fv_si (fv_si σ 1544 (Int32.ofNat (ln + 1))) 1563 0) 1565 (Int32.ofNat h)) 1668 = 0 := g68
    have sR : xR none (fv_si (fv_si (fv_si σ 1544 (Int32.ofNat (ln + 1))) 1563 0) 1565 (Int32.ofNat h)) := rfl
    have sF : pFm (fv_si (fv_si (fv_si σ 1544 (Int32.ofNat (ln + 1))) 1563 0) 1565 (Int32.ofNat h)) := pFm_c hF rfl (fun _ _ _ => rfl)
    have sM : sec = true → xMe M (fv_si (fv_si (fv_si σ 1544 (Int32.ofNat (ln + 1))) 1563 0) 1565 (Int32.ofNat h)) := fun hs => xMe_s (hM hs) ⟨rfl, rfl, rfl, rfl⟩
    have sq : xFq σ (fv_si (fv_si (fv_si σ 1544 (Int32.ofNat (ln + 1))) 1563 0) 1565 (Int32.ofNat h)) := xFq_si (xFq_si (xFq_si (xFq_r σ) 1544 _ (by omega)) 1563 _ (by omega)) 1565 _ (by omega)
    have sn : fv_n (fv_si (fv_si (fv_si σ 1544 (Int32.ofNat (ln + 1))) 1563 0) 1565 (Int32.ofNat h)) = fv_n σ := rfl
    generalize fv_si (fv_si (fv_si σ 1544 (Int32.ofNat (ln + 1))) 1563 0) 1565 (Int32.ofNat h) = s at zz s44 s67 s68 sR sF sM sq sn ⊢
    -- the line's end
    have fin : ∀ (e : Nat) (q : Nat) (L' : List (List Nat × Int32)) (h' : Nat) (I' : List (Bool × Bool)) (M' : qMem) (org : Nat) (s1 : fv_S), e ≤ n → q ≤ n → (qT B n q).1 = 0 → (qT B n q).2.1 = e → xAt B n q s1 → xZ B n sec L' h' I' org s1 → xFo s s1 → fv_n s1 = fv_n s → (sec = true → xMe M' s1) → h' ≤ 65536 → I'.length ≤ 8 → (sec = true → ∃ L1 M1 r, qPs B n false f (ln + 1) (qnx n e) L1 h' I' M1 = .inr r ∧ r.2.1 = L') →
        xPo B n sec (qPs B n sec f (ln + 1) (qnx n e) L' h' I' M') σ (zX3_pass_134 N (zX3_pass_44 N m) s1) := by
      intro e q L' h' I' M' org s1 he hq hend hpl a1 z1 fo1 n1 M1 h6' hI' hG'
      obtain ⟨s2, x2, f2, k2⟩ := x_look (N := N) hS hN7 z1.1 a1
      have z2 := xZ_g z1 f2
      have fo2 := xFo_t fo1 (xFo_g f2)
      have n2 : fv_n s2 = fv_n σ := (qGx_n f2).trans (n1.trans sn)
      have t44 : fv_gi s2 1544 = Int32.ofNat (ln + 1) := (fo2.1 1544 (by omega) (by omega) (by omega)).trans s44
      have tF : pFm s2 := pFm_c sF (fo2.1 391 (by omega) (by omega) (by omega)) (fun k h1 h2 => fo2.2.2 k (by omega))
      have tM : sec = true → xMe M' s2 := fun hs => xMe_s (M1 hs) (xMs_g f2)
      have tq := xFq_t sq (xFq_o fo2)
      have k69 : fv_gi s2 1669 = if e < n then 10 else 0 := by rw [k2.2.1]; unfold qxk; rw [if_pos hend, hpl]
      have k70 : fv_gi s2 1670 = Int32.ofNat e := by rw [k2.2.2.1, hpl]
      have k67 : fv_gi s2 1667 = Int32.ofNat e := by rw [k2.2.2.2.2.1 hend, hpl]
      unfold zX3_pass_134 zX4_endLine zX4_endLine_19
      rw [x2, fv_bi_ri, k69]
      by_cases ce : e < n
      · rw [if_pos ce, if_neg (show ¬ ¬ (10 : Int32) = 10 from not_not_intro rfl), fv_bv_rv, k70, p_sucN]
        have eq : qnx n e = e + 1 := if_pos ce
        rw [eq] at hG' ⊢
        have fg : qGx s2 (fv_si (fv_si s2 1667 (Int32.ofNat (e + 1))) 1668 0) := qGx_si (qGx_si (qGx_r s2) 1667 _ (by omega)) 1668 _ (by omega)
        have zf := xZ_65 (xZ_g z2 fg) h'
        exact xPo_t (xFq_t tq (xFq_o (xFo_g fg))) ((qGx_n fg).trans n2) (ih (ln + 1) (e + 1) L' h' I' M' m _ (by omega) (by omega) (by omega) (by omega) h6' hI' zf rfl rfl t44 (pFm_c tF rfl (fun _ _ _ => rfl)) (fun hs => xMe_s (tM hs) ⟨rfl, rfl, rfl, rfl⟩) hG')
      · rw [if_neg ce, if_pos (show ¬ (0 : Int32) = 10 by decide), fv_bv_rv]
        have eq : qnx n e = n := if_neg ce
        have en : e = n := by omega
        rw [eq] at hG' ⊢
        have fg : qGx s2 (fv_si s2 1668 0) := qGx_si (qGx_r s2) 1668 _ (by omega)
        have zf := xZ_65 (xZ_g z2 fg) h'
        exact xPo_t (xFq_t tq (xFq_o (xFo_g fg))) ((qGx_n fg).trans n2) (ih (ln + 1) n L' h' I' M' m _ (by omega) (by omega) (by omega) (Nat.le_refl _) h6' hI' zf (by rw [← en]; exact k67) rfl t44 (pFm_c tF rfl (fun _ _ _ => rfl)) (fun hs => xMe_s (tM hs) ⟨rfl, rfl, rfl, rfl⟩) hG')
    cases hd : qid I with
    | true =>
      rw [if_neg (show ¬ q01 true = 0 by decide)]
      have key : sec = true → ((qT B n (qLp B n p)).1 = 1 → qiq B n (qT B n (qLp B n p)).2.2.1 = false → qSk B n (qri (qna B (qT B n (qLp B n p)))) (qT B n (qLp B n p)).2.2.1) ∧ (qLn B n sec L h h I M p).2.2.2.1 ≤ 65536 ∧ (∃ L1 M1 r, qPs B n false f (ln + 1) (qnx n (qT B n (qou (qLn B n sec L h h I M p).2.1)).2.1) L1 (qLn B n sec L h h I M p).2.2.2.1 (qLn B n sec L h h I M p).2.2.2.2.1 M1 = .inr r ∧ r.2.1 = (qLn B n sec L h h I M p).2.2.1) := by
        intro hs
        subst hs
        obtain ⟨L1, M1, r, e, eL⟩ := hG rfl
        cases hg1 : qLfa B n false L1 h h I M1 p with
        | some g => rw [qPs_lf c d hd hg1] at e; exact absurd e (by simp)
        | none =>
          rw [qPs_ln c d hd hg1] at e
          have hq : qnx n (qT B n (qou (qLn B n false L1 h h I M1 p).2.1)).2.1 ≤ n := by
            unfold qnx; split <;> omega
          obtain ⟨X, hX⟩ := qPs_L hS _ _ _ _ _ _ _ r hq e
          obtain ⟨st, _, o1, l1, h1, i1'⟩ := q_lnf (X := X) (M := M) hS hp hg1
          obtain ⟨_, _, _, _, hle⟩ := qLF_n hg1
          have eL2 : L = (qLn B n false L1 h h I M1 p).2.2.1 ++ X := eL.symm.trans hX
          rw [eL2]
          exact ⟨st, by rw [h1]; exact hle, _, _, r, by rw [o1, h1, i1']; exact e, by rw [l1]; exact hX⟩
      have bnd := q_lnb hS hp (sec := sec) (L := L) (org := h) (M := M) h6 hI
      have R := x_line (N := N) (M := M) hS hN zz ⟨hp, Or.inl ⟨s68, s67⟩⟩ sR sF hI hd h6 sM (fun hs => (key hs).1) (fun hs => (key hs).2.1) bnd.1
      cases hg : qLfa B n sec L h h I M p with
      | some g =>
        rw [hg] at R
        obtain ⟨s1, y1, y2, y3⟩ := R
        rw [qPs_lf c d hd hg, y1, fv_bv_th]
        exact ⟨s1, rfl, by omega, xFq_t sq (xFq_o y3), (y3.1 1544 (by omega) (by omega) (by omega)).trans s44⟩
      | none =>
        rw [hg] at R
        obtain ⟨p', s1, ho, hend, hp', y1, y2, y3, y4, y5, y6, y7⟩ := R
        have hle := (qLF_n hg).2
        obtain ⟨p2, ho2, _, hle⟩ := hle
        rw [qPs_ln c d hd hg, y1, fv_bv_rv]
        have eo : qou (qLn B n sec L h h I M p).2.1 = p' := by rw [ho]; rfl
        have hb := qT_b hS p' hp'
        rw [eo]
        refine fin (qT B n p').2.1 p' _ _ _ _ h s1 hb.2.1 hp' hend rfl (xAt_of hp' y5) y6 y3 y2 y7 hle (bnd.2.1 p' ho) (fun hs => ?_)
        have := (key hs).2.2
        rw [eo] at this; exact this
    | false =>
      rw [if_pos (show q01 false = 0 by decide)]
      have R := x_skip (N := N) hS hN7 zz hI hd hp s67
      cases hg : qsky I (qskw B n p) with
      | inl g =>
        rw [hg] at R
        obtain ⟨s1, y1, y2, y3⟩ := R
        rw [qPs_sf c d hd hg, y1, fv_bv_th]
        exact ⟨s1, rfl, by omega, xFq_t sq (xFq_o y3), (y3.1 1544 (by omega) (by omega) (by omega)).trans s44⟩
      | inr I' =>
        rw [hg] at R
        obtain ⟨s1, y1, y2, y3, y4, y5, y6, y7, y8⟩ := R
        rw [qPs_sk c d hd hg, y1, fv_bv_rv]
        obtain ⟨e1, e2, e3⟩ := qeol_b hS hp
        have te : qT B n (qeol B n p) = (0, qeol B n p, qeol B n p, 0) := by
          unfold qT
          rw [show qrun (fun i => qbl (B i)) n (qeol B n p) = qeol B n p from qrun_e (by show qbl (B (qeol B n p)) = false; rw [e3]; decide)]
          unfold qTq
          rw [if_pos e3]
        refine fin (qeol B n p) (qeol B n p) L h I' M h s1 e2 e2 (by rw [te]) (by rw [te]) ⟨e2, Or.inl ⟨y7, y6⟩⟩ y4 y3 y2 (fun hs => xMe_s (sM hs) y5) h6 (q_skI hI hg) (fun hs => ?_)
        obtain ⟨L1, M1, r, e, eL⟩ := hG hs
        rw [qPs_sk c d hd hg] at e
        exact ⟨L1, M1, r, e, eL⟩
