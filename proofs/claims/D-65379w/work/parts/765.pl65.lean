set_option maxRecDepth 100000
set_option maxHeartbeats 4000000
/-! The plain law: statements of the class: IF, ELSE, ENDIF, EQU, labels. -/
theorem qin_all (v : Int32) : qin v (-2147483648) 2147483647 = true := by
  unfold qin
  apply decide_eq_true
  rw [p_le, p_le, show (-2147483648 : Int32).toInt = -2147483648 by decide, show (2147483647 : Int32).toInt = 2147483647 by decide]
  have := Int32.toInt_lt v
  have := Int32.le_toInt v
  omega
theorem qkg_all (g : Option (Nat × Nat)) (v : Int32) (o : qOu) (q : Nat) : qkg g v o (-2147483648) 2147483647 q = g := by
  cases o with
  | inl f => rfl
  | inr p => show qoe g (if qin v _ _ = true then none else _) = g; rw [if_pos (qin_all v), qoe_n]
theorem xAt_c {B : Nat → Nat} {n p : Nat} {σ σ' : fv_S} (h : xAt B n p σ) (g : ∀ k, 1667 ≤ k → k ≤ 1672 → fv_gi σ' k = fv_gi σ k) : xAt B n p σ' := by
  refine ⟨h.1, ?_⟩
  rcases h.2 with ⟨b1, b2⟩ | b
  · exact Or.inl ⟨(g 1668 (by omega) (by omega)).trans b1, (g 1667 (by omega) (by omega)).trans b2⟩
  · exact Or.inr ⟨(g 1668 (by omega) (by omega)).trans b.1, (g 1669 (by omega) (by omega)).trans b.2.1, (g 1670 (by omega) (by omega)).trans b.2.2.1, fun x y => (g 1671 (by omega) (by omega)).trans (b.2.2.2.1 x y), fun x => (g 1667 (by omega) (by omega)).trans (b.2.2.2.2.1 x), fun x => (g 1672 (by omega) (by omega)).trans (b.2.2.2.2.2 x)⟩
/-- what IF tells, and its outcome -/
noncomputable def qIfG (B : Nat → Nat) (n p : Nat) (L : List (List Nat × Int32)) (org : Nat) (I : List (Bool × Bool)) : Option (Nat × Nat) := if I.length = 8 then none else ((qEX B n p).1 (qen L org)).1
noncomputable def qIfO (B : Nat → Nat) (n p : Nat) (I : List (Bool × Bool)) (q : Nat) : qOu := if I.length = 8 then .inl (7, q) else (qEX B n p).2
theorem x_if {B : Nat → Nat} {n N p q : Nat} (hS : qS B n) (hN : 7000 ≤ N) {sec : Bool} {L : List (List Nat × Int32)} {h : Nat} {I : List (Bool × Bool)} {org : Nat} {σ : fv_S} (z : xZ B n sec L h I org σ) (ha : xAt B n p σ) (hR : xR none σ) (hI : I.length ≤ 8) (hd : qid I = true) (hh : h ≤ 65536) (hq : fv_gi σ 1548 = Int32.ofNat q) (hqn : q ≤ n) :
    xSo B n (qIfG B n p L org I) (qIfO B n p I q) (fun σ' => xZ B n sec L h ((decide (((qEX B n p).1 (qen L org)).2 ≠ 0), false) :: I) org σ' ∧ xMs σ σ') σ (fv_bv (zX3_conditional N 72 σ) (fun σ13 => fv_rv σ13) fv_th) := by
  have hn := hS.1
  unfold qIfG qIfO zX3_conditional
  have z8 := z.2.2.2.2.2.2.2.1
  rw [if_neg (show ¬ ¬ (72 : Int32) = 72 by decide), z8, hq]
  by_cases c : I.length = 8
  · rw [if_pos c, if_pos c, c, if_neg (show ¬ ¬ Int32.ofNat 8 = 8 by decide)]
    exact xSo_th (7, q) rfl (xFo_r σ) ⟨by show 1 ≤ 7; omega, by show 7 ≤ 9; omega, by show q ≤ 6000; omega⟩ hR
  · rw [if_neg c, if_neg c, if_pos (show ¬ Int32.ofNat I.length = 8 from fun e => c ((p_eqN _ 8 (by omega) (by omega)).1 e))]
    have R := x_kx hS hN z ha hR (-2147483648) 2147483647
    rw [qkg_all] at R
    generalize ((qEX B n p).1 (qen L org)).1 = g at R ⊢
    generalize ((qEX B n p).1 (qen L org)).2 = v at R ⊢
    generalize (qEX B n p).2 = o at R ⊢
    cases o with
    | inl f =>
      obtain ⟨σ', y1, y2, y3, y4, y5, y6⟩ := R
      rw [y1, fv_bi_th, fv_bv_th]
      exact ⟨σ', rfl, y3, y2, ⟨y4.1, by omega, by omega⟩, y5, fun g hg => qtm_lt (y6 g hg)⟩
    | inr p' =>
      obtain ⟨w, σ', y1, y2, y3, y4, y5, y6, y7, y8⟩ := R
      have z' := xZ_f z y2 y4
      obtain ⟨σ2, x2, z2, m2, f2, n2, g2⟩ := x_begin z' (by omega) (decide (w ≠ 0))
      rw [y1, fv_bi_ri]
      have e50 : (if w = 0 then zX3_conditional_50 N 0 σ' else zX3_conditional_50 N 1 σ') = fv_rv σ2 := by
        rw [hd] at x2
        unfold zX3_conditional_50
        by_cases c0 : w = 0
        · rw [if_pos c0]
          rw [decide_eq_false (fun h => h c0)] at x2
          rw [show zX3_begin 0 0 σ' = _ from x2, fv_bv_rv]
        · rw [if_neg c0]
          rw [decide_eq_true (show w ≠ 0 from c0)] at x2
          rw [show zX3_begin 1 0 σ' = _ from x2, fv_bv_rv]
      rw [e50, fv_bv_rv]
      refine ⟨σ2, rfl, n2.trans y3, xFo_t (xFo_x y2) f2, (g2 1548 (by omega)).trans (y2.1 1548 (by omega) (by omega) (by omega) (by omega) (by omega) (by omega)), z2.1, xAt_c y5 (fun k _ _ => g2 k (by omega)), xR_c y6 (g2 1563 (by omega)) (g2 1564 (by omega)), y7, fun hG => ⟨?_, xMs_t (xMs_x y2) m2⟩, fun _ => ?_⟩
      · rw [y8 hG] at z2; exact z2
      · rw [z2.2.2.2.2.1]; exact (p_leN h 65536 (by omega) (by omega)).2 hh
def qTuO (els : Bool) (I : List (Bool × Bool)) (q p : Nat) : qOu := match qtu els I q with
  | .inl f => .inl f
  | .inr _ => .inr p
def qTuI (els : Bool) (I : List (Bool × Bool)) (q : Nat) : List (Bool × Bool) := match qtu els I q with
  | .inl _ => I
  | .inr I' => I'
theorem x_tu {B : Nat → Nat} {n N p q : Nat} (hS : qS B n) {sec : Bool} {L : List (List Nat × Int32)} {h : Nat} {I : List (Bool × Bool)} {org : Nat} {σ : fv_S} (z : xZ B n sec L h I org σ) (ha : xAt B n p σ) (hR : xR none σ) (hI : I.length ≤ 8) (hq : fv_gi σ 1548 = Int32.ofNat q) (hqn : q ≤ n) (els : Bool) :
    xSo B n none (qTuO els I q p) (fun σ' => xZ B n sec L h (qTuI els I q) org σ' ∧ xMs σ σ') σ (fv_bv (zX3_conditional N (if els = true then 73 else 74) σ) (fun σ13 => fv_rv σ13) fv_th) := by
  have hn := hS.1
  obtain ⟨A, C⟩ := x_oth z hI els q
  unfold zX3_conditional qTuO qTuI
  rw [if_pos (show ¬ (if els = true then (73 : Int32) else 74) = 72 by cases els <;> decide), hq]
  cases hu : qtu els I q with
  | inl f =>
    obtain ⟨x, e⟩ := A f hu
    rw [x, fv_bv_th, fv_bv_th]
    exact xSo_th f rfl (xFo_r σ) (by rw [e]; exact ⟨by show 1 ≤ 7; omega, by show 7 ≤ 9; omega, by show q ≤ 6000; omega⟩) hR
  | inr I' =>
    obtain ⟨σ', x, z', m', f', n', g'⟩ := C I' hu
    rw [x, fv_bv_rv, fv_bv_rv]
    exact ⟨σ', rfl, n', f', g' 1548 (by omega), z'.1, xAt_c ha (fun k _ _ => g' k (by omega)), xR_c hR (g' 1563 (by omega)) (g' 1564 (by omega)), fun f hf => absurd hf (by simp), fun _ => ⟨z', m'⟩, fun h => absurd rfl h⟩
theorem x_eqC {B : Nat → Nat} {n : Nat} (hS : qS B n) (p c : Nat) (h1 : 65 ≤ c) (h2 : c ≤ 90) : qxs B n p = Int32.ofNat c ↔ qcap (B p) = c := by
  unfold qxs
  by_cases d : p < n
  · rw [if_pos d]
    rw [eq_comm, p_se_lt (by omega) (qcap_lt _ (hS.2.1 p)), eq_comm]
  · rw [if_neg d, hS.2.2 p (by omega)]
    refine ⟨fun e => ?_, fun e => ?_⟩
    · have := congrArg Int32.toInt e
      rw [p_ofn c (by omega), show (-1 : Int32).toInt = -1 by decide] at this; omega
    · have : qcap 10 = 10 := rfl
      omega
theorem qst_c {b c : Nat} (h : qcap b = c) (h1 : 65 ≤ c) (h2 : c ≤ 90) : qst b = true := by
  unfold qst; rw [h]; simp; omega
/-- whether EQU comes next -/
def qiq (B : Nat → Nat) (n p : Nat) : Bool := decide ((qT B n p).1 = 1 ∧ qri (qna B (qT B n p)) = 68)
theorem qiq_e {B : Nat → Nat} {n p : Nat} (hS : qS B n) (hp : p ≤ n) : ((qT B n p).1 = 1 ∧ qri (qna B (qT B n p)) = 68) ↔ (qcap (B (qnb B n p)) = 69 ∧ qcap (B (qnb B n p + 1)) = 81 ∧ qcap (B (qnb B n p + 2)) = 85 ∧ qnp (B (qnb B n p + 3)) = false) := by
  have e68 : p_nm 68 = [69, 81, 85] := by decide +kernel
  rw [qri_eq (by omega), e68]
  have hq := (qrun_le (fun i => qbl (B i)) n p).2 hp
  unfold qT qna
  show ((qTq B n (qnb B n p)).1 = 1 ∧ qnm B (qTq B n (qnb B n p)).2.1 ((qTq B n (qnb B n p)).2.2.1 - (qTq B n (qnb B n p)).2.1) = _) ↔ _
  have hq' : qnb B n p ≤ n := hq
  generalize qnb B n p = q at hq' ⊢
  have np : ∀ i, n ≤ i → qnp (B i) = false := fun i hi => by rw [hS.2.2 i hi]; rfl
  have lt : ∀ i c, qcap (B i) = c → 65 ≤ c → i < n := fun i c h hc => by
    apply Decidable.byContradiction; intro hh
    rw [hS.2.2 i (by omega)] at h
    have : qcap 10 = 10 := rfl
    omega
  constructor
  · rintro ⟨h1, h2⟩
    have e := qTq_n h1
    have hs := ((qTq_1 B n q).1 h1).1
    rw [e] at h2
    have hqn : q < n := by
      apply Decidable.byContradiction; intro c; rw [hS.2.2 q (by omega)] at hs; exact absurd hs (by decide)
    have ho := qrun_out (P := fun i => qnp (B i)) (p := q) np
    have hk := (qrun_le (fun i => qnp (B i)) n q).1
    generalize qrun (fun i => qnp (B i)) n q = k at h2 ho hk
    have h2 : qnm B q ((if qnm B q (k - q) = [65, 70] ∧ B k = 39 then k + 1 else k) - q) = [69, 81, 85] := h2
    have hlen := congrArg List.length h2
    rw [qnm_len] at hlen
    have hlen : (if qnm B q (k - q) = [65, 70] ∧ B k = 39 then k + 1 else k) - q = 3 := hlen
    rw [hlen] at h2
    have h2 : [qcap (B q), qcap (B (q + 1)), qcap (B (q + 1 + 1))] = [69, 81, 85] := h2
    have a1 : qcap (B q) = 69 := by injection h2
    have r1 : [qcap (B (q + 1)), qcap (B (q + 1 + 1))] = [81, 85] := by injection h2
    have a2 : qcap (B (q + 1)) = 81 := by injection r1
    have r2 : [qcap (B (q + 1 + 1))] = [85] := by injection r1
    have a3 : qcap (B (q + 1 + 1)) = 85 := by injection r2
    have hk3 : k = q + 3 := by
      by_cases c : qnm B q (k - q) = [65, 70] ∧ B k = 39
      · rw [if_pos c] at hlen
        have e2 : k - q = 2 := by omega
        have c1 := c.1
        rw [e2] at c1
        have c1 : [qcap (B q), qcap (B (q + 1))] = [65, 70] := c1
        have : qcap (B q) = 65 := by injection c1
        omega
      · rw [if_neg c] at hlen; omega
    rw [hk3] at ho
    exact ⟨a1, a2, a3, ho⟩
  · rintro ⟨a1, a2, a3, a4⟩
    have l0 := lt q 69 a1 (by omega)
    have l1 := lt (q + 1) 81 a2 (by omega)
    have l2 := lt (q + 2) 85 a3 (by omega)
    have n0 : qnp (B q) = true := by unfold qnp; rw [qst_c a1 (by omega) (by omega)]; rfl
    have n1 : qnp (B (q + 1)) = true := by unfold qnp; rw [qst_c a2 (by omega) (by omega)]; rfl
    have n2 : qnp (B (q + 2)) = true := by unfold qnp; rw [qst_c a3 (by omega) (by omega)]; rfl
    have hk : qrun (fun i => qnp (B i)) n q = q + 3 := by
      rw [qrun_s (P := fun i => qnp (B i)) l0 n0, qrun_s (P := fun i => qnp (B i)) l1 n1, qrun_s (P := fun i => qnp (B i)) l2 n2, qrun_e (P := fun i => qnp (B i)) a4]
    have h1 : (qTq B n q).1 = 1 := (qTq_1 B n q).2 ⟨qst_c a1 (by omega) (by omega), by rw [hk]; omega⟩
    refine ⟨h1, ?_⟩
    rw [qTq_n h1, hk]
    have e3 : qnm B q (q + 3 - q) = [69, 81, 85] := by
      rw [show q + 3 - q = 3 by omega]
      show [qcap (B q), qcap (B (q + 1)), qcap (B (q + 1 + 1))] = _
      rw [a1, a2, show q + 1 + 1 = q + 2 by omega, a3]
    show qnm B q ((if qnm B q (q + 3 - q) = [65, 70] ∧ B (q + 3) = 39 then q + 3 + 1 else q + 3) - q) = _
    rw [if_neg (by rw [e3]; simp), e3]
theorem x_beq {B : Nat → Nat} {n p : Nat} (hS : qS B n) {N : Nat} (hN : 7000 ≤ N) {σ : fv_S} (h : qX B n σ) (hp : p ≤ n) (a : fv_gi σ 1667 = Int32.ofNat p) : zX4_isBeforeEqu N σ = fv_ri (q01 (qiq B n p)) σ := by
  have hn := hS.1
  have E := qiq_e hS hp
  unfold zX4_isBeforeEqu zX4_nextPlace qiq
  have hq : qnb B n p ≤ n := (qrun_le (fun i => qbl (B i)) n p).2 hp
  rw [a, (x_next hS N σ h (n - p) p N rfl hp (by omega)).1, fv_bi_ri, x_sg hS h _ (by omega), fv_bi_ri]
  generalize qnb B n p = q at hq E ⊢
  have add : ∀ j, Int32.ofNat q + Int32.ofNat j = Int32.ofNat (q + j) := fun j => (Int32.ofNat_add q j).symm
  by_cases c1 : qcap (B q) = 69
  · rw [if_neg (show ¬ ¬ qxs B n q = 69 from not_not_intro ((x_eqC hS q 69 (by omega) (by omega)).2 c1)), show Int32.ofNat q + 1 = _ from add 1, x_sg hS h _ (by omega), fv_bi_ri]
    by_cases c2 : qcap (B (q + 1)) = 81
    · rw [if_neg (show ¬ ¬ qxs B n (q + 1) = 81 from not_not_intro ((x_eqC hS (q + 1) 81 (by omega) (by omega)).2 c2)), show Int32.ofNat q + 2 = _ from add 2, x_sg hS h _ (by omega), fv_bi_ri]
      by_cases c3 : qcap (B (q + 2)) = 85
      · rw [if_neg (show ¬ ¬ qxs B n (q + 2) = 85 from not_not_intro ((x_eqC hS (q + 2) 85 (by omega) (by omega)).2 c3)), show Int32.ofNat q + 3 = _ from add 3, x_sg hS h _ (by omega), fv_bi_ri, x_np hS, fv_bi_ri]
        cases c4 : qnp (B (q + 3)) with
        | true => rw [if_pos (show ¬ q01 true = 0 by decide), decide_eq_false (fun h => by have := (E.1 h).2.2.2; rw [c4] at this; exact absurd this (by decide))]; rfl
        | false => rw [if_neg (show ¬ ¬ q01 false = 0 by decide), decide_eq_true (E.2 ⟨c1, c2, c3, c4⟩)]; rfl
      · rw [if_pos (show ¬ qxs B n (q + 2) = 85 from fun e => c3 ((x_eqC hS (q + 2) 85 (by omega) (by omega)).1 e)), decide_eq_false (fun h => c3 (E.1 h).2.2.1)]; rfl
    · rw [if_pos (show ¬ qxs B n (q + 1) = 81 from fun e => c2 ((x_eqC hS (q + 1) 81 (by omega) (by omega)).1 e)), decide_eq_false (fun h => c2 (E.1 h).2.1)]; rfl
  · rw [if_pos (show ¬ qxs B n q = 69 from fun e => c1 ((x_eqC hS q 69 (by omega) (by omega)).1 e)), decide_eq_false (fun h => c1 (E.1 h).1)]; rfl
