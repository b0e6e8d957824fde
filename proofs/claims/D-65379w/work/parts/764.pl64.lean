set_option maxRecDepth 100000
set_option maxHeartbeats 4000000
/-! The plain law: statements of the class: ORG, IF, ELSE, ENDIF, EQU. -/
def xMs (σ σ' : fv_S) : Prop := fv_gw σ' 20 = fv_gw σ 20 ∧ fv_gi σ' 1545 = fv_gi σ 1545 ∧ fv_gi σ' 1546 = fv_gi σ 1546 ∧ fv_gi σ' 1547 = fv_gi σ 1547
theorem xMs_r (σ : fv_S) : xMs σ σ := ⟨rfl, rfl, rfl, rfl⟩
theorem xMs_t {a b c : fv_S} (h : xMs a b) (g : xMs b c) : xMs a c := ⟨g.1.trans h.1, g.2.1.trans h.2.1, g.2.2.1.trans h.2.2.1, g.2.2.2.trans h.2.2.2⟩
theorem xMs_x {a b : fv_S} (h : xFx a b) : xMs a b := ⟨by show b.2.2.1 20 = _; rw [h.2.2], h.1 _ (by omega) (by omega) (by omega) (by omega) (by omega) (by omega), h.1 _ (by omega) (by omega) (by omega) (by omega) (by omega) (by omega), h.1 _ (by omega) (by omega) (by omega) (by omega) (by omega) (by omega)⟩
theorem xMs_g {a b : fv_S} (h : qGx a b) : xMs a b := xMs_x (xFx_g h)
theorem x_and16 (r : Int32) : r &&& 65535 ≤ 65536 := by
  obtain ⟨m, hm, e⟩ := p_andn r 65535 (by decide)
  rw [show (65535 : Int32) = Int32.ofNat 65535 from rfl, e]
  exact (p_leN m 65536 (by omega) (by omega)).2 (by omega)
theorem qin_16 {v : Int32} (h : qin v 0 65535 = true) : ∃ m, m ≤ 65535 ∧ v = Int32.ofNat m ∧ v &&& 65535 = v ∧ v.toNatClampNeg = m := by
  unfold qin at h
  have h := of_decide_eq_true h
  have h1 := (p_le 0 v).1 h.1
  have h2 := (p_le v 65535).1 h.2
  have e0 : (0 : Int32).toInt = 0 := by decide
  have e1 : (65535 : Int32).toInt = 65535 := by decide
  rw [e0] at h1
  rw [e1] at h2
  have ev : v = Int32.ofNat v.toInt.toNat := by
    apply Int32.toInt_inj.1
    rw [p_ofn _ (by omega)]; omega
  refine ⟨v.toInt.toNat, by omega, ev, ?_, ?_⟩
  · rw [ev]
    apply Int32.toInt_inj.1
    have : Int32.ofNat v.toInt.toNat &&& 65535 = Int32.ofNat (v.toInt.toNat &&& 65535) := by
      apply Int32.toBitVec_inj.1
      apply BitVec.eq_of_toNat_eq
      simp [Int32.toBitVec_and]
    rw [this]
    congr 1
    rw [show (65535 : Nat) = 2 ^ 16 - 1 from rfl, Nat.and_two_pow_sub_one_eq_mod, Nat.mod_eq_of_lt (by omega)]
  · conv => lhs; rw [ev]
    exact p_cl _ (by omega)
theorem x_org {B : Nat → Nat} {n N p : Nat} (hS : qS B n) (hN : 7000 ≤ N) {sec : Bool} {L : List (List Nat × Int32)} {h : Nat} {I : List (Bool × Bool)} {org : Nat} {σ : fv_S} (z : xZ B n sec L h I org σ) (ha : xAt B n p σ) (hR : xR none σ) :
    xSo B n (qkg ((qEX B n p).1 (qen L org)).1 ((qEX B n p).1 (qen L org)).2 (qEX B n p).2 0 65535 (qT B n p).2.1) (qEX B n p).2 (fun σ' => xZ B n sec L ((qEX B n p).1 (qen L org)).2.toNatClampNeg I org σ' ∧ xMs σ σ') σ (fv_bi (zX3_knownExp N 0 65535 σ) (fun r16 σ15 => fv_rv (fv_si σ15 1543 (r16 &&& 65535))) fv_th) := by
  have hn := hS.1
  have R := x_kx hS hN z ha hR 0 65535
  generalize ((qEX B n p).1 (qen L org)).1 = g at R ⊢
  generalize ((qEX B n p).1 (qen L org)).2 = v at R ⊢
  generalize (qEX B n p).2 = o at R ⊢
  cases o with
  | inl f =>
    obtain ⟨σ', y1, y2, y3, y4, y5, y6⟩ := R
    rw [y1, fv_bi_th]
    exact ⟨σ', rfl, y3, y2, ⟨y4.1, by omega, by omega⟩, y5, fun g hg => qtm_lt (y6 g hg)⟩
  | inr p' =>
    obtain ⟨w, σ', y1, y2, y3, y4, y5, y6, y7, y8⟩ := R
    have z' := xZ_f z y2 y4
    rw [y1, fv_bi_ri]
    refine ⟨_, rfl, y3, xFo_si (xFo_x y2) 1543 _ (by omega), y2.1 1548 (by omega) (by omega) (by omega) (by omega) (by omega) (by omega), ⟨z'.1.1, z'.1.2⟩, ⟨y5.1, y5.2⟩, xR_c y6 rfl rfl, y7, fun hG => ⟨?_, xMs_t (xMs_x y2) ⟨rfl, rfl, rfl, rfl⟩⟩, fun _ => x_and16 w⟩
    have ew := y8 hG
    have hi : qin v 0 65535 = true := by
      have hG' : qoe g (if qin v 0 65535 = true then none else some (5, (qT B n p).2.1)) = none := hG
      have := (qoe_no hG').2
      cases hq : qin v 0 65535 with
      | true => rfl
      | false => rw [hq, if_neg (by decide)] at this; exact absurd this (by simp)
    obtain ⟨m, m1, m2, m3, m4⟩ := qin_16 hi
    refine ⟨⟨z'.1.1, z'.1.2⟩, ⟨z'.2.1.1, z'.2.1.2⟩, z'.2.2.1, z'.2.2.2.1, ?_, z'.2.2.2.2.2.1, z'.2.2.2.2.2.2.1, z'.2.2.2.2.2.2.2.1, xIf_c I σ' _ (fun _ _ => ⟨rfl, rfl, rfl⟩) z'.2.2.2.2.2.2.2.2⟩
    show w &&& 65535 = Int32.ofNat v.toNatClampNeg
    rw [ew, m3, m4]; exact m2
theorem x_nar (b : Bool) : vp_nar .boolean (q01 b) = q01 b := by cases b <;> decide +kernel
/-- a condition begins -/
theorem x_begin {B : Nat → Nat} {n : Nat} {sec : Bool} {L : List (List Nat × Int32)} {h : Nat} {I : List (Bool × Bool)} {org : Nat} {σ : fv_S} (z : xZ B n sec L h I org σ) (hI : I.length < 8) (b : Bool) : ∃ σ', zX3_begin (q01 (b && qid I)) (q01 (!(qid I))) σ = fv_rv σ' ∧ xZ B n sec L h ((b, false) :: I) org σ' ∧ xMs σ σ' ∧ xFo σ σ' ∧ fv_n σ' = fv_n σ ∧ (∀ k, k ≠ 1559 → fv_gi σ' k = fv_gi σ k) := by
  obtain ⟨z1, z2, z3, z4, z5, z6, z7, z8, z9⟩ := z
  obtain ⟨i1, i2⟩ := p_inN (I.length + 1) 9 (by omega) (by omega)
  unfold zX3_begin
  rw [z8, p_sucN, if_pos i1, if_pos i1, if_pos i1, x_nar, x_nar, show vp_nar .boolean 0 = 0 by decide +kernel]
  generalize hs : fv_sa (fv_sa (fv_sa (fv_si σ 1559 (Int32.ofNat (I.length + 1))) 27 (Int32.ofNat (I.length + 1)) (q01 (b && qid I))) 29 (Int32.ofNat (I.length + 1)) (q01 (!(qid I)))) 28 (Int32.ofNat (I.length + 1)) 0 = σ'
  have gi : ∀ k, k ≠ 1559 → fv_gi σ' k = fv_gi σ k := fun k hk => by rw [← hs]; exact if_neg hk
  have gw : ∀ a, a ≠ 27 → a ≠ 28 → a ≠ 29 → fv_gw σ' a = fv_gw σ a := fun a h1 h2 h3 => by
    rw [← hs, s_an _ _ _ _ _ h2, s_an _ _ _ _ _ h3, s_an _ _ _ _ _ h1]; rfl
  have a27 : ∀ j, fv_gw σ' 27 j = if j = I.length + 1 then q01 (b && qid I) else fv_gw σ 27 j := fun j => by
    rw [← hs, s_an _ _ _ _ _ (by omega), s_an _ _ _ _ _ (by omega)]
    by_cases c : j = I.length + 1
    · rw [if_pos c, c]
      have := s_ak (fv_si σ 1559 (Int32.ofNat (I.length + 1))) 27 (Int32.ofNat (I.length + 1)) (q01 (b && qid I))
      rw [i2] at this; exact this
    · rw [if_neg c, s_ai _ _ _ _ _ (by rw [i2]; exact c)]; rfl
  have a29 : ∀ j, fv_gw σ' 29 j = if j = I.length + 1 then q01 (!(qid I)) else fv_gw σ 29 j := fun j => by
    rw [← hs, s_an _ _ _ _ _ (by omega)]
    by_cases c : j = I.length + 1
    · rw [if_pos c, c]
      have := s_ak (fv_sa (fv_si σ 1559 (Int32.ofNat (I.length + 1))) 27 (Int32.ofNat (I.length + 1)) (q01 (b && qid I))) 29 (Int32.ofNat (I.length + 1)) (q01 (!(qid I)))
      rw [i2] at this; exact this
    · rw [if_neg c, s_ai _ _ _ _ _ (by rw [i2]; exact c), s_an _ _ _ _ _ (by omega)]; rfl
  have a28 : ∀ j, fv_gw σ' 28 j = if j = I.length + 1 then 0 else fv_gw σ 28 j := fun j => by
    rw [← hs]
    by_cases c : j = I.length + 1
    · rw [if_pos c, c]
      have := s_ak (fv_sa (fv_sa (fv_si σ 1559 (Int32.ofNat (I.length + 1))) 27 (Int32.ofNat (I.length + 1)) (q01 (b && qid I))) 29 (Int32.ofNat (I.length + 1)) (q01 (!(qid I)))) 28 (Int32.ofNat (I.length + 1)) 0
      rw [i2] at this; exact this
    · rw [if_neg c, s_ai _ _ _ _ _ (by rw [i2]; exact c), s_an _ _ _ _ _ (by omega), s_an _ _ _ _ _ (by omega)]; rfl
  have g59 : fv_gi σ' 1559 = Int32.ofNat (I.length + 1) := by rw [← hs]; rfl
  have l2 : σ'.2.1 = σ.2.1 := by rw [← hs]; rfl
  have ln : fv_n σ' = fv_n σ := by rw [← hs]; rfl
  refine ⟨σ', rfl, ⟨?_, ?_, (gi _ (by omega)).trans z3, xQ4_c z4 (gi _ (by omega)) (fun _ => ⟨gi _ (by omega), gi _ (by omega)⟩), (gi _ (by omega)).trans z5, (gi _ (by omega)).trans z6, (gi _ (by omega)).trans z7, g59, ?_, ?_, ?_, ?_⟩, ⟨gw 20 (by omega) (by omega) (by omega), gi _ (by omega), gi _ (by omega), gi _ (by omega)⟩, ⟨fun k h1 _ _ => gi k (by omega), ⟨l2, xB17_e (gw 17 (by omega) (by omega) (by omega))⟩, fun a ha => gw a (by omega) (by omega) (by omega)⟩, ln, gi⟩
  · exact ⟨(gi 1665 (by omega)).trans z1.1, by rw [gw 14 (by omega) (by omega) (by omega), gw 15 (by omega) (by omega) (by omega)]; exact z1.2⟩
  · exact ⟨(gi 2051 (by omega)).trans z2.1, z2.2.1, by rw [gw 17 (by omega) (by omega) (by omega), gw 18 (by omega) (by omega) (by omega), gw 19 (by omega) (by omega) (by omega)]; exact z2.2.2⟩
  · rw [a27, if_pos rfl]; rfl
  · rw [a29, if_pos rfl]
  · rw [a28, if_pos rfl]; rfl
  · exact xIf_c I σ σ' (fun i hi => ⟨by rw [a27, if_neg (by omega)], by rw [a28, if_neg (by omega)], by rw [a29, if_neg (by omega)]⟩) z9
/-- ELSE and ENDIF -/
def qtu (els : Bool) (I : List (Bool × Bool)) (q : Nat) : (Nat × Nat) ⊕ List (Bool × Bool) := match I with
  | [] => .inl (7, q)
  | x :: I => if els = true then (if x.2 = true then .inl (7, q) else .inr ((!x.1, true) :: I)) else .inr I
theorem x_oth {B : Nat → Nat} {n : Nat} {sec : Bool} {L : List (List Nat × Int32)} {h : Nat} {I : List (Bool × Bool)} {org : Nat} {σ : fv_S} (z : xZ B n sec L h I org σ) (hI : I.length ≤ 8) (els : Bool) (q : Nat) :
    (∀ f, qtu els I q = .inl f → zX3_otherwise (if els = true then 73 else 74) (Int32.ofNat q) σ = fv_th (Int32.ofNat f.1) (Int32.ofNat f.2) (fv_sc σ) ∧ f = (7, q)) ∧ (∀ I', qtu els I q = .inr I' → ∃ σ', zX3_otherwise (if els = true then 73 else 74) (Int32.ofNat q) σ = fv_rv σ' ∧ xZ B n sec L h I' org σ' ∧ xMs σ σ' ∧ xFo σ σ' ∧ fv_n σ' = fv_n σ ∧ (∀ k, k ≠ 1559 → fv_gi σ' k = fv_gi σ k)) := by
  have z0 := z
  obtain ⟨z1, z2, z3, z4, z5, z6, z7, z8, z9⟩ := z
  cases I with
  | nil =>
    refine ⟨fun f hf => ?_, fun I' hh => absurd hh (by simp [qtu])⟩
    have hf := (Sum.inl.inj hf).symm
    subst hf
    refine ⟨?_, rfl⟩
    unfold zX3_otherwise zX3_otherwise_25
    rw [z8, if_pos (show Int32.ofNat ([] : List (Bool × Bool)).length = 0 from rfl)]; rfl
  | cons x I =>
    simp only [List.length_cons] at hI z8
    obtain ⟨i1, i2⟩ := p_inN (I.length + 1) 9 (by omega) (by omega)
    have n0 : ¬ Int32.ofNat (I.length + 1) = 0 := fun e => by have := (p_eqN (I.length + 1) 0 (by omega) (by omega)).1 e; omega
    obtain ⟨y1, y2, y3, y4⟩ := z9
    have g28 : fv_ga σ 28 (Int32.ofNat (I.length + 1)) = q01 x.2 := by show fv_gw σ 28 (Int32.ofNat (I.length + 1)).toNatClampNeg = _; rw [i2]; exact y3
    have g29 : fv_ga σ 29 (Int32.ofNat (I.length + 1)) = q01 (!(qid I)) := by show fv_gw σ 29 (Int32.ofNat (I.length + 1)).toNatClampNeg = _; rw [i2]; exact y2
    have g27 : fv_ga σ 27 (Int32.ofNat (I.length + 1)) = q01 (qid (x :: I)) := by show fv_gw σ 27 (Int32.ofNat (I.length + 1)).toNatClampNeg = _; rw [i2]; exact y1
    cases els with
    | false =>
      refine ⟨fun f hh => absurd hh (by simp [qtu]), fun I' hh => ?_⟩
      have hh := (Sum.inr.inj hh).symm
      subst hh
      refine ⟨fv_si σ 1559 (Int32.ofNat I'.length), ?_, ⟨⟨z1.1, z1.2⟩, ⟨z2.1, z2.2⟩, z3, z4, z5, z6, z7, rfl, xIf_c I' σ _ (fun _ _ => ⟨rfl, rfl, rfl⟩) y4⟩, ⟨rfl, rfl, rfl, rfl⟩, xFo_si (xFo_r σ) 1559 _ (by omega), rfl, fun k hk => if_neg hk⟩
      unfold zX3_otherwise zX3_otherwise_36
      rw [z8, if_neg n0, if_neg (show ¬ (false : Bool) = true by decide), if_pos (show ¬ (74 : Int32) = 73 by decide), if_neg (show ¬ ¬ (74 : Int32) = 74 by decide), p_prN _ (by omega)]; rfl
    | true =>
      have eh : zX3_otherwise (if (true : Bool) = true then 73 else 74) (Int32.ofNat q) σ = if q01 x.2 = 0 then zX3_otherwise_36 73 σ else zX3_otherwise_25 (Int32.ofNat q) σ := by
        unfold zX3_otherwise
        rw [z8, if_neg n0, if_pos rfl, if_neg (show ¬ ¬ (73 : Int32) = 73 by decide), if_pos i1, g28]
      rw [eh]
      cases hx : x.2 with
      | true =>
        refine ⟨fun f hh => ?_, fun I' hh => absurd hh (by simp [qtu, hx])⟩
        have hh : (Sum.inl (7, q) : (Nat × Nat) ⊕ List (Bool × Bool)) = .inl f := by rw [← hh]; simp [qtu, hx]
        have hh := (Sum.inl.inj hh).symm
        subst hh
        rw [if_neg (show ¬ q01 true = 0 by decide)]; exact ⟨rfl, rfl⟩
      | false =>
        refine ⟨fun f hh => absurd hh (by simp [qtu, hx]), fun I' hh => ?_⟩
        have hh : (Sum.inr ((!x.1, true) :: I) : (Nat × Nat) ⊕ List (Bool × Bool)) = .inr I' := by rw [← hh]; simp [qtu, hx]
        have hh := (Sum.inr.inj hh).symm
        subst hh
        rw [if_pos (show q01 false = 0 by decide)]
        have fin : ∃ σ', zX3_otherwise_102 (Int32.ofNat (I.length + 1)) (q01 (qid ((!x.1, true) :: I))) (fv_sa σ 28 (Int32.ofNat (I.length + 1)) 1) = fv_rv σ' ∧ xZ B n sec L h ((!x.1, true) :: I) org σ' ∧ xMs σ σ' ∧ xFo σ σ' ∧ fv_n σ' = fv_n σ ∧ (∀ k, k ≠ 1559 → fv_gi σ' k = fv_gi σ k) := by
          unfold zX3_otherwise_102
          rw [if_pos i1, x_nar]
          generalize hs : fv_sa (fv_sa σ 28 (Int32.ofNat (I.length + 1)) 1) 27 (Int32.ofNat (I.length + 1)) (q01 (qid ((!x.1, true) :: I))) = σ'
          have gi : ∀ k, fv_gi σ' k = fv_gi σ k := fun k => by rw [← hs]; rfl
          have gw : ∀ a, a ≠ 27 → a ≠ 28 → fv_gw σ' a = fv_gw σ a := fun a h1 h2 => by
            rw [← hs, s_an _ _ _ _ _ h1, s_an _ _ _ _ _ h2]
          have a27 : ∀ j, fv_gw σ' 27 j = if j = I.length + 1 then q01 (qid ((!x.1, true) :: I)) else fv_gw σ 27 j := fun j => by
            rw [← hs]
            by_cases c : j = I.length + 1
            · rw [if_pos c, c]
              have := s_ak (fv_sa σ 28 (Int32.ofNat (I.length + 1)) 1) 27 (Int32.ofNat (I.length + 1)) (q01 (qid ((!x.1, true) :: I)))
              rw [i2] at this; exact this
            · rw [if_neg c, s_ai _ _ _ _ _ (by rw [i2]; exact c), s_an _ _ _ _ _ (by omega)]
          have a28 : ∀ j, fv_gw σ' 28 j = if j = I.length + 1 then 1 else fv_gw σ 28 j := fun j => by
            rw [← hs, s_an _ _ _ _ _ (by omega)]
            by_cases c : j = I.length + 1
            · rw [if_pos c, c]
              have := s_ak σ 28 (Int32.ofNat (I.length + 1)) 1
              rw [i2] at this; exact this
            · rw [if_neg c, s_ai _ _ _ _ _ (by rw [i2]; exact c)]
          have l2 : σ'.2.1 = σ.2.1 := by rw [← hs]; rfl
          have ln : fv_n σ' = fv_n σ := by rw [← hs]; rfl
          refine ⟨σ', rfl, ⟨?_, ?_, (gi _).trans z3, xQ4_c z4 (gi _) (fun _ => ⟨gi _, gi _⟩), (gi _).trans z5, (gi _).trans z6, (gi _).trans z7, (gi _).trans z8, ?_, ?_, ?_, ?_⟩, ⟨gw 20 (by omega) (by omega), gi _, gi _, gi _⟩, ⟨fun k _ _ _ => gi k, ⟨l2, xB17_e (gw 17 (by omega) (by omega))⟩, fun a ha => gw a (by omega) (by omega)⟩, ln, fun k _ => gi k⟩
          · exact ⟨(gi 1665).trans z1.1, by rw [gw 14 (by omega) (by omega), gw 15 (by omega) (by omega)]; exact z1.2⟩
          · exact ⟨(gi 2051).trans z2.1, z2.2.1, by rw [gw 17 (by omega) (by omega), gw 18 (by omega) (by omega), gw 19 (by omega) (by omega)]; exact z2.2.2⟩
          · rw [a27, if_pos rfl]
          · rw [gw 29 (by omega) (by omega)]; exact y2
          · rw [a28, if_pos rfl]; rfl
          · exact xIf_c I σ σ' (fun i hi => ⟨by rw [a27, if_neg (by omega)], by rw [a28, if_neg (by omega)], by rw [gw 29 (by omega) (by omega)]⟩) y4
        unfold zX3_otherwise_36 zX3_otherwise_101
        rw [if_pos (show ¬ (73 : Int32) = 74 by decide), z8, if_pos i1, if_pos i1, g29, show vp_nar .boolean 1 = 1 by decide +kernel, if_pos i1, g27]
        cases hq : qid I with
        | false =>
          rw [if_pos (show ¬ q01 (!false) = 0 by decide)]
          have : qid ((!x.1, true) :: I) = false := by show (!x.1 && qid I) = false; rw [hq]; simp
          rw [this] at fin; exact fin
        | true =>
          rw [if_neg (show ¬ ¬ q01 (!true) = 0 by decide)]
          have e1 : qid (x :: I) = x.1 := by show (x.1 && qid I) = x.1; rw [hq]; simp
          have e2 : qid ((!x.1, true) :: I) = !x.1 := by show (!x.1 && qid I) = !x.1; rw [hq]; simp
          rw [e1]
          rw [e2] at fin
          cases hx1 : x.1 with
          | true => rw [if_pos (show ¬ q01 true = 0 by decide)]; rw [hx1] at fin; exact fin
          | false => rw [if_neg (show ¬ ¬ q01 false = 0 by decide)]; rw [hx1] at fin; exact fin
