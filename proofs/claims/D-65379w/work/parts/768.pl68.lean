set_option maxRecDepth 100000
set_option maxHeartbeats 4000000
/-! The plain law: statements of the model: IF, ELSE, ENDIF, EQU, labels. -/
theorem mZ_c {B : Nat → Nat} {n : Nat} {sec : Bool} {L : List (List Nat × Int32)} {h : Nat} {I I' : List (Bool × Bool)} {org : Nat} {τ τ' : fv_S} (z : mZ B n sec L h I org τ) (gi : ∀ k, k ≠ 45 → fv_gi τ' k = fv_gi τ k) (gw : ∀ a, a ≠ 15 → a ≠ 16 → fv_gw τ' a = fv_gw τ a) (h5 : fv_gi τ' 45 = Int32.ofNat I'.length) (hi : mIf I' τ') : mZ B n sec L h I' org τ' := by
  obtain ⟨z1, z2, z3, z4, z5, z6, z7, z8⟩ := z
  exact ⟨⟨(gi 1 (by omega)).trans z1.1, by rw [gw 1 (by omega) (by omega)]; exact z1.2⟩, ⟨(gi 13 (by omega)).trans z2.1, z2.2.1, by rw [gw 2 (by omega) (by omega), gw 3 (by omega) (by omega), gw 4 (by omega) (by omega)]; exact z2.2.2⟩, (gi _ (by omega)).trans z3, (gi _ (by omega)).trans z4, (gi _ (by omega)).trans z5, (gi _ (by omega)).trans z6, h5, hi⟩
theorem m_ifb {B : Nat → Nat} {n : Nat} {sec : Bool} {L : List (List Nat × Int32)} {h : Nat} {I : List (Bool × Bool)} {org : Nat} {τ : fv_S} (z : mZ B n sec L h I org τ) (hI : I.length < 8) (b : Bool) : ∃ τ', (if fv_in (fv_gi τ 45) 9 then (if fv_in (fv_gi τ 45) 9 then fv_ri 1 (fv_si (fv_sa (fv_sa τ 15 (fv_gi τ 45) (vp_nar .boolean (q01 b))) 16 (fv_gi τ 45) (vp_nar .boolean 0)) 45 ((fv_gi τ 45) + 1)) else none) else none) = fv_ri 1 τ' ∧ mZ B n sec L h ((b, false) :: I) org τ' ∧ mMs τ τ' ∧ mFo τ τ' ∧ fv_gi τ' 2 = fv_gi τ 2 := by
  have z7 := z.2.2.2.2.2.2.1
  obtain ⟨i1, i2⟩ := p_inN I.length 9 (by omega) (by omega)
  rw [z7, if_pos i1, if_pos i1, x_nar, show vp_nar .boolean 0 = 0 by decide +kernel, p_sucN]
  generalize hs : fv_si (fv_sa (fv_sa τ 15 (Int32.ofNat I.length) (q01 b)) 16 (Int32.ofNat I.length) 0) 45 (Int32.ofNat (I.length + 1)) = τ'
  have gi : ∀ k, k ≠ 45 → fv_gi τ' k = fv_gi τ k := fun k hk => by rw [← hs]; exact if_neg hk
  have gw : ∀ a, a ≠ 15 → a ≠ 16 → fv_gw τ' a = fv_gw τ a := fun a h1 h2 => by
    rw [← hs]; show fv_gw (fv_sa (fv_sa τ 15 (Int32.ofNat I.length) (q01 b)) 16 (Int32.ofNat I.length) 0) a = _
    rw [s_an _ _ _ _ _ h2, s_an _ _ _ _ _ h1]
  have a15 : ∀ j, fv_gw τ' 15 j = if j = I.length then q01 b else fv_gw τ 15 j := fun j => by
    rw [← hs]; show fv_gw (fv_sa (fv_sa τ 15 (Int32.ofNat I.length) (q01 b)) 16 (Int32.ofNat I.length) 0) 15 j = _
    rw [s_an _ _ _ _ _ (by omega)]
    by_cases c : j = I.length
    · rw [if_pos c, c]
      have := s_ak τ 15 (Int32.ofNat I.length) (q01 b)
      rw [i2] at this; exact this
    · rw [if_neg c, s_ai _ _ _ _ _ (by rw [i2]; exact c)]
  have a16 : ∀ j, fv_gw τ' 16 j = if j = I.length then 0 else fv_gw τ 16 j := fun j => by
    rw [← hs]; show fv_gw (fv_sa (fv_sa τ 15 (Int32.ofNat I.length) (q01 b)) 16 (Int32.ofNat I.length) 0) 16 j = _
    by_cases c : j = I.length
    · rw [if_pos c, c]
      have := s_ak (fv_sa τ 15 (Int32.ofNat I.length) (q01 b)) 16 (Int32.ofNat I.length) 0
      rw [i2] at this; exact this
    · rw [if_neg c, s_ai _ _ _ _ _ (by rw [i2]; exact c), s_an _ _ _ _ _ (by omega)]
  have g45 : fv_gi τ' 45 = Int32.ofNat (I.length + 1) := by rw [← hs]; rfl
  have l2 : τ'.2.1 = τ.2.1 := by rw [← hs]; rfl
  have ln : fv_n τ' = fv_n τ := by rw [← hs]; rfl
  refine ⟨τ', rfl, mZ_c z gi gw g45 ⟨?_, ?_, mIf_c I τ τ' (fun i hi => ⟨by rw [a15, if_neg (by omega)], by rw [a16, if_neg (by omega)]⟩) z.2.2.2.2.2.2.2⟩, ⟨gw 14 (by omega) (by omega), gi _ (by omega), gi _ (by omega)⟩, ⟨fun k hk => gi k (by omega), fun k _ => by show τ'.2.1 k = _; rw [l2], fun a ha => gw a (by omega) (by omega), ln⟩, gi 2 (by omega)⟩
  · rw [a15, if_pos rfl]
  · rw [a16, if_pos rfl]; rfl
theorem m_if {B : Nat → Nat} {n N p q : Nat} (hS : qS B n) (hN : 7000 ≤ N) {sec : Bool} {L : List (List Nat × Int32)} {h : Nat} {I : List (Bool × Bool)} {org : Nat} {τ : fv_S} (z : mZ B n sec L h I org τ) (hp : p ≤ n) (k : qMt B (qT B n p) τ) (hI : I.length ≤ 8) (hh : h ≤ 65536) :
    mSo B n (qLF B n (qIfG B n p L org I) (qIfO B n p I q) h q) (qIfO B n p I q) (fun τ' => mZ B n sec L h ((decide (((qEX B n p).1 (qen L org)).2 ≠ 0), false) :: I) org τ' ∧ mMs τ τ') τ
      (if ¬ (fv_gi τ 45) = 8 then fv_bi (zX8_expression N 1 τ) (fun r16 σ15 => if ¬ r16 = 0 then (if (fv_gi σ15 22) = 0 then zX8_directive_167 N 0 σ15 else zX8_directive_167 N 1 σ15) else fv_ri 0 σ15) fv_no else fv_bi (zX8_wrong 7 (Int32.ofNat q) τ) (fun r18 σ17 => if r18 = 0 ∨ r18 = 1 then fv_ri r18 σ17 else none) fv_no) := by
  unfold qIfG qIfO
  rw [z.2.2.2.2.2.2.1]
  by_cases c : I.length = 8
  · rw [if_pos c, if_pos c, c, if_neg (show ¬ ¬ Int32.ofNat 8 = 8 by decide)]
    exact mFx_w z.2.2.2.2.2.1 (7, q) ⟨by show 1 ≤ 7; omega, by show 7 ≤ 9; omega⟩
  rw [if_neg c, if_neg c, if_pos (show ¬ Int32.ofNat I.length = 8 from fun e => c ((p_eqN _ 8 (by omega) (by omega)).1 e))]
  obtain ⟨A, C, D⟩ := m_kx (N := N) hS hN z hp k
  cases hg : ((qEX B n p).1 (qen L org)).1 with
  | some f => exact mFx_n (A f hg) _
  | none =>
    have C := C hg
    have D := D hg
    generalize ((qEX B n p).1 (qen L org)).2 = v at D ⊢
    cases ho : (qEX B n p).2 with
    | inl f => exact mFx_n (C f ho) _
    | inr p' =>
      obtain ⟨τ', x, f, k', z', hp', e22⟩ := D p' ho
      rw [x, fv_bi_ri, if_pos (show ¬ (1 : Int32) = 0 by decide), e22]
      have e : (if v = 0 then zX8_directive_167 N 0 τ' else zX8_directive_167 N 1 τ') = zX8_directive_167 N (q01 (decide (v ≠ 0))) τ' := by
        by_cases c0 : v = 0
        · rw [if_pos c0, decide_eq_false (fun h => h c0)]; rfl
        · rw [if_neg c0, decide_eq_true (show v ≠ 0 from c0)]; rfl
      rw [e]
      unfold zX8_directive_167
      refine m_fin (mFo_e f) hp' k' z'.2.2.2.2.2.1 h q hh _ (fun _ => ?_)
      obtain ⟨τ2, y1, y2, y3, y4, y5⟩ := m_ifb z' (by omega) (decide (v ≠ 0))
      exact ⟨τ2, y1, mFo_t (mFo_e f) y4, y5, y2, mMs_t (mMs_e f) y3⟩
/-- ELSE, ENDIF behind the checks -/
theorem m_t75 {B : Nat → Nat} {n q : Nat} {sec : Bool} {L : List (List Nat × Int32)} {h : Nat} {I : List (Bool × Bool)} {org : Nat} {τ : fv_S} (z : mZ B n sec L h I org τ) (hI : I.length ≤ 8) (els : Bool) (I' : List (Bool × Bool)) (hu : qtu els I q = .inr I') : ∃ τ', zX8_turn_75 (q01 els) τ = fv_ri 1 τ' ∧ mZ B n sec L h I' org τ' ∧ mMs τ τ' ∧ mFo τ τ' ∧ fv_gi τ' 2 = fv_gi τ 2 := by
  cases I with
  | nil => exact absurd hu (by simp [qtu])
  | cons x I =>
    have z7 : fv_gi τ 45 = Int32.ofNat (I.length + 1) := z.2.2.2.2.2.2.1
    simp only [List.length_cons] at hI
    obtain ⟨i1, i2⟩ := p_inN I.length 9 (by omega) (by omega)
    have e45 : fv_gi τ 45 - 1 = Int32.ofNat I.length := by rw [z7, p_prN _ (by omega)]; rfl
    obtain ⟨y1, y2, y3⟩ := z.2.2.2.2.2.2.2
    unfold zX8_turn_75
    rw [e45]
    cases els with
    | false =>
      have hu : (Sum.inr I : (Nat × Nat) ⊕ List (Bool × Bool)) = .inr I' := by rw [← hu]; simp [qtu]
      have hu := (Sum.inr.inj hu).symm
      subst hu
      rw [if_pos (show q01 false = 0 by decide)]
      refine ⟨_, rfl, mZ_c z (fun k hk => if_neg hk) (fun _ _ _ => rfl) rfl (mIf_c I' τ _ (fun _ _ => ⟨rfl, rfl⟩) y3), ⟨rfl, rfl, rfl⟩, mFo_si (mFo_r τ) 45 _ (by omega), rfl⟩
    | true =>
      have hx : x.2 = false := by
        cases hx : x.2 with
        | false => rfl
        | true => exact absurd hu (by simp [qtu, hx])
      have hu : (Sum.inr ((!x.1, true) :: I) : (Nat × Nat) ⊕ List (Bool × Bool)) = .inr I' := by rw [← hu]; simp [qtu, hx]
      have hu := (Sum.inr.inj hu).symm
      subst hu
      have g15 : fv_ga τ 15 (Int32.ofNat I.length) = q01 x.1 := by show fv_gw τ 15 (Int32.ofNat I.length).toNatClampNeg = _; rw [i2]; exact y1
      have e : (if ¬ q01 x.1 = 0 then zX8_turn_109 (Int32.ofNat I.length) 0 τ else zX8_turn_109 (Int32.ofNat I.length) 1 τ) = zX8_turn_109 (Int32.ofNat I.length) (q01 (!x.1)) τ := by
        cases x.1 with
        | true => rw [if_pos (show ¬ q01 true = 0 by decide)]; rfl
        | false => rw [if_neg (show ¬ ¬ q01 false = 0 by decide)]; rfl
      rw [if_neg (show ¬ q01 true = 0 by decide), if_pos i1, g15, e]
      unfold zX8_turn_109
      rw [e45, if_pos i1, if_pos i1, x_nar, show vp_nar .boolean 1 = 1 by decide +kernel]
      generalize hs : fv_sa (fv_sa τ 15 (Int32.ofNat I.length) (q01 (!x.1))) 16 (Int32.ofNat I.length) 1 = τ'
      have gi : ∀ k, fv_gi τ' k = fv_gi τ k := fun k => by rw [← hs]; rfl
      have gw : ∀ a, a ≠ 15 → a ≠ 16 → fv_gw τ' a = fv_gw τ a := fun a h1 h2 => by
        rw [← hs, s_an _ _ _ _ _ h2, s_an _ _ _ _ _ h1]
      have a15 : ∀ j, fv_gw τ' 15 j = if j = I.length then q01 (!x.1) else fv_gw τ 15 j := fun j => by
        rw [← hs, s_an _ _ _ _ _ (by omega)]
        by_cases c : j = I.length
        · rw [if_pos c, c]
          have := s_ak τ 15 (Int32.ofNat I.length) (q01 (!x.1))
          rw [i2] at this; exact this
        · rw [if_neg c, s_ai _ _ _ _ _ (by rw [i2]; exact c)]
      have a16 : ∀ j, fv_gw τ' 16 j = if j = I.length then 1 else fv_gw τ 16 j := fun j => by
        rw [← hs]
        by_cases c : j = I.length
        · rw [if_pos c, c]
          have := s_ak (fv_sa τ 15 (Int32.ofNat I.length) (q01 (!x.1))) 16 (Int32.ofNat I.length) 1
          rw [i2] at this; exact this
        · rw [if_neg c, s_ai _ _ _ _ _ (by rw [i2]; exact c), s_an _ _ _ _ _ (by omega)]
      have l2 : τ'.2.1 = τ.2.1 := by rw [← hs]; rfl
      have ln : fv_n τ' = fv_n τ := by rw [← hs]; rfl
      refine ⟨τ', rfl, mZ_c z (fun k _ => gi k) gw ((gi 45).trans z7) ⟨?_, ?_, mIf_c I τ τ' (fun i hi => ⟨by rw [a15, if_neg (by omega)], by rw [a16, if_neg (by omega)]⟩) y3⟩, ⟨gw 14 (by omega) (by omega), gi _, gi _⟩, ⟨fun k hk => gi k, fun k _ => by show τ'.2.1 k = _; rw [l2], fun a ha => gw a (by omega) (by omega), ln⟩, gi 2⟩
      · rw [a15, if_pos rfl]
      · rw [a16, if_pos rfl]; rfl
theorem m_t28 {B : Nat → Nat} {n q : Nat} {sec : Bool} {L : List (List Nat × Int32)} {h : Nat} {I : List (Bool × Bool)} {org : Nat} {τ : fv_S} (z : mZ B n sec L h I org τ) (hI : I.length ≤ 8) (els : Bool) (x4 : Int32) (w : Int64) (hw : (lg_cmp w 1162629957 = 0) ↔ els = true) :
    (∀ f, qtu els I q = .inl f → mFx f τ (zX8_turn (Int32.ofNat q) w x4 τ)) ∧ (∀ I', qtu els I q = .inr I' → zX8_turn (Int32.ofNat q) w x4 τ = zX8_turn_57 x4 (q01 els) τ) := by
  have h8 := z.2.2.2.2.2.1
  have z7 := z.2.2.2.2.2.2.1
  have wr := mFx_w h8 (7, q) ⟨by show 1 ≤ 7; omega, by show 7 ≤ 9; omega⟩
  unfold zX8_turn
  cases I with
  | nil =>
    refine ⟨fun f hf => ?_, fun I' hf => absurd hf (by simp [qtu])⟩
    have hf := (Sum.inl.inj hf).symm
    subst hf
    rw [z7, if_neg (show ¬ ¬ Int32.ofNat ([] : List (Bool × Bool)).length = 0 from not_not_intro rfl)]
    exact wr
  | cons x I =>
    have z7 : fv_gi τ 45 = Int32.ofNat (I.length + 1) := z7
    simp only [List.length_cons] at hI
    obtain ⟨i1, i2⟩ := p_inN I.length 9 (by omega) (by omega)
    have n0 : ¬ Int32.ofNat (I.length + 1) = 0 := fun e => by have := (p_eqN (I.length + 1) 0 (by omega) (by omega)).1 e; omega
    have e45 : Int32.ofNat (I.length + 1) - 1 = Int32.ofNat I.length := by rw [p_prN _ (by omega)]; rfl
    obtain ⟨y1, y2, y3⟩ := z.2.2.2.2.2.2.2
    have g16 : fv_ga τ 16 (Int32.ofNat I.length) = q01 x.2 := by show fv_gw τ 16 (Int32.ofNat I.length).toNatClampNeg = _; rw [i2]; exact y2
    have e28 : ∀ s0, zX8_turn_28 (Int32.ofNat q) x4 s0 τ = if s0 = 0 then zX8_turn_57 x4 s0 τ else (if q01 x.2 = 0 then zX8_turn_57 x4 s0 τ else fv_bi (zX8_wrong 7 (Int32.ofNat q) τ) (fun r9 σ8 => if r9 = 0 ∨ r9 = 1 then fv_ri r9 σ8 else none) fv_no) := by
      intro s0
      unfold zX8_turn_28
      rw [z7, e45, if_pos i1, g16]
    rw [z7, if_pos n0]
    cases els with
    | false =>
      refine ⟨fun f hf => absurd hf (by simp [qtu]), fun I' _ => ?_⟩
      rw [if_pos (fun e => absurd (hw.1 e) (by decide)), e28, if_pos rfl]; rfl
    | true =>
      rw [if_neg (not_not_intro (hw.2 rfl)), e28, if_neg (show ¬ (1 : Int32) = 0 by decide)]
      cases hx : x.2 with
      | true =>
        refine ⟨fun f hf => ?_, fun I' hf => absurd hf (by simp [qtu, hx])⟩
        have hf : (Sum.inl (7, q) : (Nat × Nat) ⊕ List (Bool × Bool)) = .inl f := by rw [← hf]; simp [qtu, hx]
        have hf := (Sum.inl.inj hf).symm
        subst hf
        rw [if_neg (show ¬ q01 true = 0 by decide)]; exact wr
      | false =>
        refine ⟨fun f hf => absurd hf (by simp [qtu, hx]), fun I' _ => ?_⟩
        rw [if_pos (show q01 false = 0 by decide)]; rfl
theorem m_tu {B : Nat → Nat} {n p q : Nat} {sec : Bool} {L : List (List Nat × Int32)} {h : Nat} {I : List (Bool × Bool)} {org : Nat} {τ : fv_S} (z : mZ B n sec L h I org τ) (hp : p ≤ n) (k : qMt B (qT B n p) τ) (hI : I.length ≤ 8) (hh : h ≤ 65536) (els : Bool) (w : Int64) (hw : (lg_cmp w 1162629957 = 0) ↔ els = true) :
    mSo B n (qLF B n none (qTuO els I q p) h q) (qTuO els I q p) (fun τ' => mZ B n sec L h (qTuI els I q) org τ' ∧ mMs τ τ') τ (fv_bi (zX8_turn (Int32.ofNat q) w 0 τ) (fun r13 σ12 => if r13 = 0 ∨ r13 = 1 then fv_ri r13 σ12 else none) fv_no) := by
  obtain ⟨A, C⟩ := m_t28 (q := q) z hI els 0 w hw
  refine mSo_b ?_
  unfold qTuO qTuI
  cases hu : qtu els I q with
  | inl f => exact A f hu
  | inr I' =>
    rw [C I' hu]
    unfold zX8_turn_57
    rw [if_neg (show ¬ ¬ (0 : Int32) = 0 by decide)]
    refine m_fin (mFo_r τ) hp k z.2.2.2.2.2.1 h q hh _ (fun _ => ?_)
    obtain ⟨τ2, y1, y2, y3, y4, y5⟩ := m_t75 z hI els I' hu
    exact ⟨τ2, y1, y4, y5, y2, y3⟩
theorem mZ_l {B : Nat → Nat} {n : Nat} {sec : Bool} {L L' : List (List Nat × Int32)} {h : Nat} {I : List (Bool × Bool)} {org : Nat} {τ τ' : fv_S} (z : mZ B n sec L h I org τ) (f : mFl τ τ') (hL : mL L' τ') : mZ B n sec L' h I org τ' := by
  obtain ⟨z1, z2, z3, z4, z5, z6, z7, z8⟩ := z
  exact ⟨⟨(f.1 1 (by omega)).trans z1.1, by rw [f.2.2.1 1 (by omega) (by omega) (by omega)]; exact z1.2⟩, hL, (f.1 _ (by omega)).trans z3, (f.1 _ (by omega)).trans z4, (f.1 _ (by omega)).trans z5, (f.1 _ (by omega)).trans z6, (f.1 _ (by omega)).trans z7, mIf_c I τ τ' (fun i _ => by rw [f.2.2.1 15 (by omega) (by omega) (by omega), f.2.2.1 16 (by omega) (by omega) (by omega)]; exact ⟨rfl, rfl⟩) z8⟩
theorem mMs_l {a b : fv_S} (f : mFl a b) : mMs a b := ⟨f.2.2.1 14 (by omega) (by omega) (by omega), f.1 _ (by omega), f.1 _ (by omega)⟩
/-- the tests before a name is told, in the model -/
theorem m_bdt {B : Nat → Nat} {n N q k : Nat} (hS : qS B n) (hN : 7000 ≤ N) {sec : Bool} {L : List (List Nat × Int32)} {h : Nat} {I : List (Bool × Bool)} {org : Nat} {τ : fv_S} (z : mZ B n sec L h I org τ) (hk : q + k ≤ n) (hz : qnz (qnm B q k)) (X Y : fv_S → Option fv_O) :
    fv_bi (zX8_isReserved (qwd (qnm B q k)) τ) (fun r5 σ4 => if ¬ r5 = 0 then X σ4 else fv_bi (zX8_find N (Int32.ofNat q) (Int32.ofNat (q + k)) σ4) (fun r7 σ6 => if (0 : Int32) ≤ r7 then X σ6 else if ¬ (fv_gi σ6 13) = 200 then Y σ6 else X σ6) fv_no) fv_no = if qbd L (qnm B q k) = true then X τ else Y τ := by
  have hl := z.2.1.2.1
  rw [m_isRes hz, fv_bi_ri]
  by_cases c1 : qri (qnm B q k) < 99
  · rw [decide_eq_true c1, if_pos (show ¬ q01 true = 0 by decide), if_pos (show qbd L (qnm B q k) = true from decide_eq_true (Or.inl c1))]
  rw [decide_eq_false c1, if_neg (show ¬ ¬ q01 false = 0 by decide), m_lf hS hN hk z.1 z.2.1, fv_bi_ri]
  by_cases c2 : qlf (qnm B q k) L < L.length
  · rw [if_pos ((qxi_nn _ _ (by omega)).2 c2), if_pos (show qbd L (qnm B q k) = true from decide_eq_true (Or.inr (Or.inl c2)))]
  rw [if_neg (fun e => c2 ((qxi_nn _ _ (by omega)).1 e)), z.2.1.1]
  by_cases c3 : L.length = 200
  · rw [if_neg (show ¬ ¬ Int32.ofNat L.length = 200 from not_not_intro (by rw [c3]; rfl)), if_pos (show qbd L (qnm B q k) = true from decide_eq_true (Or.inr (Or.inr c3)))]
  · rw [if_pos (show ¬ Int32.ofNat L.length = 200 from fun e => c3 ((p_eqN _ 200 (by omega) (by omega)).1 e)), if_neg (show ¬ qbd L (qnm B q k) = true from fun e => by have := of_decide_eq_true e; omega)]
theorem m_equ {B : Nat → Nat} {n N p q k q0 : Nat} (hS : qS B n) (hN : 7000 ≤ N) {sec : Bool} {L : List (List Nat × Int32)} {h : Nat} {I : List (Bool × Bool)} {org : Nat} {τ : fv_S} (z : mZ B n sec L h I org τ) (hp : (qT B n p).2.2.1 ≤ n) (kt : qMt B (qT B n (qT B n p).2.2.1) τ) (hh : h ≤ 65536) (hk : q + k ≤ n) (hk2 : k ≤ 12) (hz : qnz (qnm B q k)) :
    mSo B n (qLF B n (qEqG B n p sec L org (qnm B q k)) (qEqO B n p sec L (qnm B q k) q) h q0) (qEqO B n p sec L (qnm B q k) q) (fun τ' => mZ B n sec (qEqL B n p sec L org (qnm B q k)) h I org τ' ∧ mMs τ τ') τ (zX8_equal N (Int32.ofNat q) (Int32.ofNat (q + k)) (qwd (qnm B q k)) τ) := by
  have hl := z.2.1.2.1
  have h8 := z.2.2.2.2.2.1
  have hd : zX8_equal N (Int32.ofNat q) (Int32.ofNat (q + k)) (qwd (qnm B q k)) τ = if sec = false ∧ qbd L (qnm B q k) = true then zX8_equal_34 N (Int32.ofNat q) τ else zX8_equal_41 N (Int32.ofNat q) (Int32.ofNat (q + k)) τ := by
    unfold zX8_equal
    rw [z.2.2.1]
    cases hs : sec with
    | true => rw [if_pos (show ¬ q01 true = 0 by decide), if_neg (fun e => absurd e.1 (by decide))]
    | false =>
      rw [if_neg (show ¬ ¬ q01 false = 0 by decide), m_bdt hS hN z hk hz (fun s => zX8_equal_34 N (Int32.ofNat q) s) (fun s => zX8_equal_41 N (Int32.ofNat q) (Int32.ofNat (q + k)) s)]
      by_cases c : qbd L (qnm B q k) = true
      · rw [if_pos c, if_pos ⟨rfl, c⟩]
      · rw [if_neg c, if_neg (fun e => c e.2)]
  unfold qEqG qEqO
  rw [hd]
  by_cases cb : sec = false ∧ qbd L (qnm B q k) = true
  · rw [if_pos cb, if_pos cb, if_pos cb]
    unfold zX8_equal_34
    exact mFx_w h8 (3, q) ⟨by show 1 ≤ 3; omega, by show 3 ≤ 9; omega⟩
  · rw [if_neg cb, if_neg cb, if_neg cb]
    unfold zX8_equal_41 qEqL
    obtain ⟨A, C, D⟩ := m_kx (N := N) hS hN z hp kt
    cases hg : ((qEX B n (qT B n p).2.2.1).1 (qen L org)).1 with
    | some f => exact mFx_n (A f hg) _
    | none =>
      have C := C hg
      have D := D hg
      generalize ((qEX B n (qT B n p).2.2.1).1 (qen L org)).2 = v at D ⊢
      cases ho : (qEX B n (qT B n p).2.2.1).2 with
      | inl f => exact mFx_n (C f ho) _
      | inr p' =>
        obtain ⟨τ', x, f, k', z', hp', e22⟩ := D p' ho
        have e68 : ∀ s : fv_S, fv_gi s 3 = fv_gi τ' 3 → zX8_equal_68 N s = if fv_gi s 3 = 1 then fv_ri 1 s else fv_bi (zX8_refuse s) (fun r s => if r = 0 ∨ r = 1 then fv_ri r s else none) fv_no := by
          intro s _
          unfold zX8_equal_68
          by_cases c : fv_gi s 3 = 1
          · rw [if_pos c, if_pos c]
          · rw [if_neg c, if_neg c]
            unfold zX8_refuse zX8_refuse_13 zX8_wrong
            by_cases c2 : ¬ fv_gi s 3 = 0
            · rw [if_pos c2]
              by_cases c3 : ¬ fv_gi s 8 = 0
              · rw [if_pos c3]; rfl
              · rw [if_neg c3]; rfl
            · rw [if_neg c2]
              by_cases c3 : ¬ fv_gi s 8 = 0
              · rw [if_pos c3]; rfl
              · rw [if_neg c3]; rfl
        rw [x, fv_bi_ri, if_pos (show ¬ (1 : Int32) = 0 by decide), z'.2.2.1]
        by_cases hs : sec = true
        · rw [if_pos (show ¬ q01 sec = 0 by rw [hs]; decide), e68 τ' rfl]
          refine m_fin (mFo_e f) hp' k' z'.2.2.2.2.2.1 h q0 hh _ (fun _ => ⟨τ', rfl, mFo_e f, rfl, ?_, mMs_e f⟩)
          rw [if_pos hs]; exact z'
        · have hs' : sec = false := by
            cases hx : sec
            · rfl
            · exact absurd hx hs
          have hb0 : qbd L (qnm B q k) = false := by
            cases hh : qbd L (qnm B q k) with
            | false => rfl
            | true => exact absurd ⟨hs', hh⟩ cb
          have hln : L.length ≠ 200 := fun e => (of_decide_eq_false hb0) (Or.inr (Or.inr e))
          obtain ⟨τ2, x2, hL2, f2⟩ := m_addN hS hN hk hk2 z'.1 z'.2.1 (by omega) v
          have z2 := mZ_l z' f2 hL2
          have k2 : qMt B (qT B n p') τ2 := by
            have g : ∀ j, j ≤ 6 → fv_gi τ2 j = fv_gi τ' j := fun j hj => f2.1 j (by omega)
            refine ⟨⟨(g 2 (by omega)).trans k'.1.1, (g 3 (by omega)).trans k'.1.2.1, (g 4 (by omega)).trans k'.1.2.2.1, fun x => (g 6 (by omega)).trans (k'.1.2.2.2.1 x), fun x => (g 6 (by omega)).trans (k'.1.2.2.2.2.1 x), ?_⟩, (g 5 (by omega)).trans k'.2⟩
            show τ2.2.1 7 = _
            rw [f2.2.1]; exact k'.1.2.2.2.2.2
          rw [if_neg (show ¬ ¬ q01 sec = 0 by rw [hs']; decide), e22, x2, fv_bv_rv, e68 τ2 (f2.1 3 (by omega))]
          have fo := mFo_l (mFo_e f) f2
          refine m_fin fo hp' k2 z2.2.2.2.2.2.1 h q0 hh _ (fun _ => ⟨τ2, rfl, fo, rfl, ?_, mMs_t (mMs_e f) (mMs_l f2)⟩)
          rw [if_neg hs]; exact z2
