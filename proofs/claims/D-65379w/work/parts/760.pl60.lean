set_option maxRecDepth 100000
set_option maxHeartbeats 4000000
/-! The plain law: the model reads expressions, all of it. -/
theorem m_exq {B : Nat → Nat} {n N : Nat} (hS : qS B n) (hN : 7000 ≤ N) (L : List (List Nat × Int32)) (K : Bool) (e : qEv) {a : Option qSm} {l d p : Nat} {s : qSm} {o : qOu} (h : Ps B n a l d p s o) : mQ B n N L K e a l d p s o := by
  have hn := hS.1
  have seven : ∀ {s : qSm} {o : qOu} {W : List (Nat × Nat)} {V : List Int32} {τ : fv_S} {out : Option fv_O}, mR7 B n N L K e s o W V τ out → (7 = 7 → mR7 B n N L K e s o W V τ out) ∧ (mNu W → mRs B n N L K e 7 s o W V τ out) := fun h => ⟨fun _ => h, fun hW => m_7P h hW⟩
  -- an operand of value v
  have val : ∀ (W : List (Nat × Nat)) (V : List Int32) (τ : fv_S) (m p d : Nat) (s : qSm) (v : Int32), mC B n L e W V p τ → mPr 7 d W V → n - p + 2 ≤ m + 1 → p < (qT B n p).2.2.1 ∧ (qT B n p).2.2.1 ≤ n → (qT B n p).1 ≠ 40 ∧ (qT B n p).1 ≠ 45 ∧ (qT B n p).1 ≠ 126 → zX8_operand N (q01 K) τ = zX8_operand_108 N (q01 K) v τ → (K = true → (s e).1 = none ∧ v = (s e).2) → mR7 B n N L K e s (.inr (qT B n p).2.2.1) W V τ (zX8_expression_15 N (m + 1) (q01 K) τ) := by
    intro W V τ m p d s v hc hpr hm hlt hne heq hv
    obtain ⟨q1, q2, q3, q4, q5, q6⟩ := hpr
    have hp := hc.2.2.2.2.2.2.2
    obtain ⟨τ', x, f, c⟩ := m_108 hS hN hc (by omega) (by omega) q4 (q01 K) v
    rw [m_H0 hS hp hc.2.2.2.2.1 N m (q01 K) hne, heq, x, fv_bi_ri, if_pos (show ¬ (1 : Int32) = 0 by decide)]
    exact Or.inr ⟨τ', m, N, v, V, rfl, f, by omega, by omega, c, rfl, fun hK => ⟨(hv hK).1, (hv hK).2, rfl⟩⟩
  -- a fault at the operand
  have flt : ∀ (W : List (Nat × Nat)) (V : List Int32) (τ : fv_S) (m p : Nat) (f : Nat × Nat), mC B n L e W V p τ → (qT B n p).1 ≠ 40 ∧ (qT B n p).1 ≠ 45 ∧ (qT B n p).1 ≠ 126 → mFt f τ (zX8_operand N (q01 K) τ) → mFt f τ (zX8_expression_15 N (m + 1) (q01 K) τ) := by
    intro W V τ m p f hc hne h
    have hp := hc.2.2.2.2.2.2.2
    obtain ⟨τ', x, y⟩ := h
    rw [m_H0 hS hp hc.2.2.2.2.1 N m (q01 K) hne, x, fv_bi_ri, if_neg (not_not_intro rfl)]
    exact ⟨τ', rfl, y⟩
  refine (h (fun a l d p s o => Ps B n a l d p s o ∧ mQ B n N L K e a l d p s o) ⟨?_, ?_, ?_, ?_, ?_, ?_, ?_, ?_, ?_, ?_, ?_, ?_, ?_, ?_, ?_⟩).2
  · -- number
    intro d p h
    refine ⟨Ps_num d p h, fun W V τ m hc hpr hm => seven ?_⟩
    obtain ⟨m, rfl⟩ : ∃ j, m = j + 1 := ⟨m - 1, by omega⟩
    have hp := hc.2.2.2.2.2.2.2
    have hb := qT_b hS p hp
    have hk := hc.2.2.2.2.1
    have e3 := (m_k hk.1 3 (by omega)).trans (qmk_e (qT B n p).1).2.2.2.1
    refine val W V τ m p d _ (Int32.ofNat (qT B n p).2.2.2) hc hpr hm (by have := hb.1; have := hb.2.2.1; have := hb.2.2.2.1 (by omega) (by omega); omega) ⟨by omega, by omega, by omega⟩ ?_ (fun _ => ⟨rfl, rfl⟩)
    unfold zX8_operand
    rw [if_neg (show ¬ ¬ fv_gi τ 3 = 3 from not_not_intro (e3.2 h)), hk.1.2.2.2.1 h]
  · -- origin
    intro d p h
    refine ⟨Ps_org d p h, fun W V τ m hc hpr hm => seven ?_⟩
    obtain ⟨m, rfl⟩ : ∃ j, m = j + 1 := ⟨m - 1, by omega⟩
    have hp := hc.2.2.2.2.2.2.2
    have hb := qT_b hS p hp
    have hk := hc.2.2.2.2.1
    have e3 := (m_k hk.1 3 (by omega)).trans (qmk_e (qT B n p).1).2.2.2.1
    refine val W V τ m p d _ e.2 hc hpr hm (by have := hb.1; have := hb.2.2.1; have := hb.2.2.2.1 (by omega) (by omega); omega) ⟨by omega, by omega, by omega⟩ ?_ (fun _ => ⟨rfl, rfl⟩)
    unfold zX8_operand
    rw [if_pos (show ¬ fv_gi τ 3 = 3 from fun e => by have := e3.1 e; omega), show zX8_isSign 64 τ = _ from m_sgn hb hk.1 64 rfl, fv_bi_ri, show ((qT B n p).1 == 64) = true by simp [h], if_neg (show ¬ q01 true = 0 by decide), hc.2.2.2.1]
  · -- a name
    intro d p h h2
    refine ⟨Ps_nam d p h h2, fun W V τ m hc hpr hm => seven ?_⟩
    obtain ⟨m, rfl⟩ : ∃ j, m = j + 1 := ⟨m - 1, by omega⟩
    have hp := hc.2.2.2.2.2.2.2
    have hb := qT_b hS p hp
    have hlt := hb.2.2.2.1 (by omega) (by omega)
    have hb1 := hb.1
    have hb3 := hb.2.2.1
    have hk := hc.2.2.2.2.1
    have e3 := (m_k hk.1 3 (by omega)).trans (qmk_e (qT B n p).1).2.2.2.1
    have e2 := (m_k hk.1 2 (by omega)).trans (qmk_e (qT B n p).1).2.2.1
    obtain ⟨hz, hz2⟩ := qna_nz hS h
    have hL := hc.2.1
    have hl := hL.2.1
    have hle := qlf_le (qna B (qT B n p)) L
    have efd : zX8_find N (fv_gi τ 4) (fv_gi τ 5) τ = fv_ri (qxi (qlf (qna B (qT B n p)) L) L.length) τ := by
      rw [hk.1.2.2.1, hk.2]
      have := m_lf (q := (qT B n p).2.1) (k := (qT B n p).2.2.1 - (qT B n p).2.1) hS hN (by omega) hc.1 hL
      rw [show (qT B n p).2.1 + ((qT B n p).2.2.1 - (qT B n p).2.1) = (qT B n p).2.2.1 by omega] at this
      exact this
    have w7 : fv_gl τ 7 = qwd (qna B (qT B n p)) := by rw [hk.1.2.2.2.2.2, if_pos h]; rfl
    have start : zX8_operand N (q01 K) τ = if (0 : Int32) ≤ qxi (qlf (qna B (qT B n p)) L) L.length then zX8_operand_85 N (q01 K) (qxi (qlf (qna B (qT B n p)) L) L.length) τ else if q01 K = 0 then zX8_operand_85 N (q01 K) (qxi (qlf (qna B (qT B n p)) L) L.length) τ else fv_bi (zX8_wrong 4 (fv_gi τ 4) τ) (fun r17 σ16 => if r17 = 0 ∨ r17 = 1 then fv_ri r17 σ16 else none) fv_no := by
      unfold zX8_operand
      rw [if_pos (show ¬ fv_gi τ 3 = 3 from fun e => by have := e3.1 e; omega), show zX8_isSign 64 τ = _ from m_sgn hb hk.1 64 rfl, fv_bi_ri, show ((qT B n p).1 == 64) = false by simp [h], if_pos (show q01 false = 0 by decide), if_neg (show ¬ ¬ fv_gi τ 3 = 2 from not_not_intro (e2.2 h)), w7, m_isRes hz, fv_bi_ri, decide_eq_false (show ¬ qri (qna B (qT B n p)) < 99 by omega), if_neg (show ¬ ¬ q01 false = 0 by decide), efd, fv_bi_ri]
    by_cases c : qlf (qna B (qT B n p)) L < L.length
    · have he : L[qlf (qna B (qT B n p)) L]? = some L[qlf (qna B (qT B n p)) L] := List.getElem?_eq_getElem c
      have hv : e.1 (qna B (qT B n p)) = some (L[qlf (qna B (qT B n p)) L]).2 := by rw [hc.2.2.1]; unfold qlk; rw [he]; rfl
      obtain ⟨_, _, v3, _⟩ := hL.2.2 _ _ he
      obtain ⟨i1, i2⟩ := p_inN (qlf (qna B (qT B n p)) L) 200 (by omega) (by omega)
      have exi : qxi (qlf (qna B (qT B n p)) L) L.length = Int32.ofNat (qlf (qna B (qT B n p)) L) := if_pos c
      have es : (qnv (qna B (qT B n p)) (qT B n p).2.1) e = (none, (L[qlf (qna B (qT B n p)) L]).2) := by unfold qnv; rw [hv]
      refine val W V τ m p d _ (L[qlf (qna B (qT B n p)) L]).2 hc hpr hm (by omega) ⟨by omega, by omega, by omega⟩ ?_ (fun _ => by rw [es]; exact ⟨rfl, rfl⟩)
      rw [start, if_pos ((qxi_nn _ _ (by omega)).2 c)]
      unfold zX8_operand_85 zX8_operand_99
      rw [if_pos ((qxi_nn _ _ (by omega)).2 c), exi, if_pos i1, show fv_ga τ 4 (Int32.ofNat (qlf (qna B (qT B n p)) L)) = (L[qlf (qna B (qT B n p)) L]).2 by show fv_gw τ 4 (Int32.ofNat (qlf (qna B (qT B n p)) L)).toNatClampNeg = _; rw [i2]; exact v3]
    · have he : L[qlf (qna B (qT B n p)) L]? = none := List.getElem?_eq_none (by omega)
      have hv : e.1 (qna B (qT B n p)) = none := by rw [hc.2.2.1]; unfold qlk; rw [he]; rfl
      have nneg : ¬ (0 : Int32) ≤ qxi (qlf (qna B (qT B n p)) L) L.length := fun e => c ((qxi_nn _ _ (by omega)).1 e)
      have es : (qnv (qna B (qT B n p)) (qT B n p).2.1) e = (some (4, (qT B n p).2.1), 0) := by unfold qnv; rw [hv]
      cases hK : K with
      | true =>
        refine Or.inl ⟨rfl, (4, (qT B n p).2.1), by rw [es], ?_⟩
        rw [← hK]
        refine flt W V τ m p _ hc ⟨by omega, by omega, by omega⟩ ?_
        rw [start, if_neg nneg, hK, if_neg (show ¬ q01 true = 0 by decide), hk.1.2.2.1]
        exact mFt_b (mFt_w (f := (4, (qT B n p).2.1)) hc.2.2.2.2.2.2.1 ⟨by show 1 ≤ 4; omega, by show 4 ≤ 9; omega⟩)
      | false =>
        rw [← hK]
        refine val W V τ m p d _ 0 hc hpr hm (by omega) ⟨by omega, by omega, by omega⟩ ?_ (fun h => absurd (hK.symm.trans h) (by decide))
        rw [start, if_neg nneg, hK, if_pos (show q01 false = 0 by decide)]
        unfold zX8_operand_85 zX8_operand_99
        rw [if_neg nneg]
  · -- a reserved name
    intro d p h h2
    refine ⟨Ps_res d p h h2, fun W V τ m hc hpr hm => seven ?_⟩
    obtain ⟨m, rfl⟩ : ∃ j, m = j + 1 := ⟨m - 1, by omega⟩
    have hp := hc.2.2.2.2.2.2.2
    have hb := qT_b hS p hp
    have hk := hc.2.2.2.2.1
    have e3 := (m_k hk.1 3 (by omega)).trans (qmk_e (qT B n p).1).2.2.2.1
    have e2 := (m_k hk.1 2 (by omega)).trans (qmk_e (qT B n p).1).2.2.1
    obtain ⟨hz, hz2⟩ := qna_nz hS h
    have w7 : fv_gl τ 7 = qwd (qna B (qT B n p)) := by rw [hk.1.2.2.2.2.2, if_pos h]; rfl
    have ef : mFl1 K e qsz (2, (qT B n p).2.1) = (qwr (qT B n p), (qT B n p).2.1) := by
      unfold mFl1 qwr; rw [if_neg (by omega : ¬ (qT B n p).1 = 6)]
      split <;> rfl
    show mFt (mFl1 K e qsz (2, (qT B n p).2.1)) τ _
    rw [ef]
    refine flt W V τ m p _ hc ⟨by omega, by omega, by omega⟩ ?_
    unfold zX8_operand
    rw [if_pos (show ¬ fv_gi τ 3 = 3 from fun e => by have := e3.1 e; omega), show zX8_isSign 64 τ = _ from m_sgn hb hk.1 64 rfl, fv_bi_ri, show ((qT B n p).1 == 64) = false by simp [h], if_pos (show q01 false = 0 by decide), if_neg (show ¬ ¬ fv_gi τ 3 = 2 from not_not_intro (e2.2 h)), w7, m_isRes hz, fv_bi_ri, decide_eq_true h2, if_pos (show ¬ q01 true = 0 by decide)]
    unfold zX8_operand_103
    exact mFt_b (mFt_rf hc.2.2.2.2.2.2.1 hk.1)
  · -- - and ~
    intro d p s o h hd h2
    refine ⟨Ps_una d p s o h hd h2.1, fun W V τ m hc hpr hm => seven ?_⟩
    obtain ⟨m, rfl⟩ : ∃ j, m = j + 1 := ⟨m - 1, by omega⟩
    have hpr0 := hpr
    obtain ⟨q1, q2, q3, q4, q5, q6⟩ := hpr
    have hp := hc.2.2.2.2.2.2.2
    have hb := qT_b hS p hp
    have t1 := hb.1
    have t2 := hb.2.2.2.1 (by omega) (by omega)
    have t3 := hb.2.2.1
    have hk := hc.2.2.2.2.1
    have v6 : fv_gi τ 6 = Int32.ofNat (qT B n p).1 := by
      rw [hk.1.2.2.2.2.1 (by omega)]; unfold qmv; rw [if_neg (by omega), if_neg (by omega)]
    have e19 : ¬ fv_gi τ 19 = 40 := fun e => by rw [hc.2.2.2.2.2.1.2.2.2.2, q2] at e; have := (p_eqN d 40 (by omega) (by omega)).1 e; omega
    have step : ∃ c, 2 ≤ c ∧ c ≤ 3 ∧ (c = 2 ↔ (qT B n p).1 = 45) ∧ zX8_expression_42 N (zX8_expression_15 N m) (q01 K) τ = zX8_expression_84 N (zX8_expression_15 N m) (q01 K) (Int32.ofNat c) τ := by
      unfold zX8_expression_42
      rw [if_pos e19, v6, if_pos (show ¬ Int32.ofNat (qT B n p).1 = 40 from fun e => by have := (p_eqN _ 40 (by omega) (by omega)).1 e; omega)]
      rcases h with h | h
      · exact ⟨2, by omega, by omega, ⟨fun _ => h, fun _ => rfl⟩, by rw [if_neg (show ¬ ¬ Int32.ofNat (qT B n p).1 = 45 by rw [h]; decide)]; rfl⟩
      · exact ⟨3, by omega, by omega, ⟨fun e => by omega, fun e => by omega⟩, by rw [if_pos (show ¬ Int32.ofNat (qT B n p).1 = 45 by rw [h]; decide)]; rfl⟩
    obtain ⟨c, hc1, hc2, hc3, hc4⟩ := step
    obtain ⟨τ1, x1, f1, c1⟩ := m_e84 hS hN hc (by omega) (zX8_expression_15 N m) (q01 K) c ⟨by omega, hc2⟩
    rw [m_H1 hS hp hk N m (q01 K) (by omega), hc4, x1]
    have pr1 : mPr 7 (d + 1) ((c, (qT B n p).2.1) :: W) V := by
      refine ⟨by simp only [List.length_cons]; omega, ?_, by simp only [List.length_cons]; omega, fun x hx => ?_, by omega, fun h => by omega⟩
      · show (if c ≤ 3 then 1 else 0) + qop W = d + 1
        rw [if_pos hc2]; omega
      · rcases List.mem_cons.1 hx with h | h
        · rw [h]; show c < 256; omega
        · exact q4 x h
    have ih := (h2.2 ((c, (qT B n p).2.1) :: W) V τ1 m c1 pr1 (by omega)).1 rfl
    have us : ∀ v, qus ((c, (qT B n p).2.1) :: W) v = qus W (if (qT B n p).1 = 45 then -v else v ^^^ -1) := by
      intro v
      show (if c = 2 then qus W (-v) else if c = 3 then qus W (v ^^^ -1) else _) = _
      by_cases c2 : c = 2
      · rw [if_pos c2, if_pos (hc3.1 c2)]
      · rw [if_neg c2, if_pos (by omega), if_neg (fun e => c2 (hc3.2 e))]
    cases o with
    | inl f => exact mFt_t f1 ih
    | inr p' =>
      rcases ih with ⟨hK, f, hf, hF⟩ | ⟨τ', m1, m2, v, V1, y1, y2, y3, y4, y5, yl, y6⟩
      · exact Or.inl ⟨hK, f, hf, mFt_t f1 hF⟩
      · rw [us v] at y5
        refine Or.inr ⟨τ', m1, m2, _, V1, y1, mFe_t f1 y2, y3, y4, y5, yl, fun hK => ?_⟩
        obtain ⟨z1, z2, z3⟩ := y6 hK
        exact ⟨z1, by rw [z2]; rfl, z3⟩
  · -- ( with a fault within
    intro d p s f h hd h2
    refine ⟨Ps_brt d p s f h hd h2.1, fun W V τ m hc hpr hm => seven ?_⟩
    obtain ⟨m, rfl⟩ : ∃ j, m = j + 1 := ⟨m - 1, by omega⟩
    obtain ⟨q1, q2, q3, q4, q5, q6⟩ := hpr
    have hp := hc.2.2.2.2.2.2.2
    have hb := qT_b hS p hp
    have t1 := hb.1
    have t2 := hb.2.2.2.1 (by omega) (by omega)
    have t3 := hb.2.2.1
    have hk := hc.2.2.2.2.1
    have v6 : fv_gi τ 6 = 40 := by rw [hk.1.2.2.2.2.1 (by omega), h]; rfl
    have e19 : ¬ fv_gi τ 19 = 40 := fun e => by rw [hc.2.2.2.2.2.1.2.2.2.2, q2] at e; have := (p_eqN d 40 (by omega) (by omega)).1 e; omega
    obtain ⟨τ1, x1, f1, c1⟩ := m_e84 hS hN hc (by omega) (zX8_expression_15 N m) (q01 K) 1 ⟨by omega, by omega⟩
    have st : zX8_expression_15 N (m + 1) (q01 K) τ = zX8_expression_15 N m (q01 K) τ1 := by
      rw [m_H1 hS hp hk N m (q01 K) (by omega)]
      unfold zX8_expression_42
      rw [if_pos e19, v6, if_neg (show ¬ ¬ (40 : Int32) = 40 by decide)]
      exact x1
    rw [st]
    have pr1 : mPr 1 (d + 1) ((1, (qT B n p).2.1) :: W) V := by
      refine ⟨by simp only [List.length_cons]; omega, ?_, by simp only [List.length_cons]; omega, fun x hx => ?_, by omega, fun _ => Or.inl rfl⟩
      · show (if 1 ≤ 3 then 1 else 0) + qop W = d + 1
        rw [if_pos (by omega)]; omega
      · rcases List.mem_cons.1 hx with h | h
        · rw [h]; show 1 < 256; omega
        · exact q4 x h
    have nu : mNu ((1, (qT B n p).2.1) :: W) := fun x W' e => by
      have := (List.cons.inj e).1; rw [← this]; show (1 : Nat) ≠ 2 ∧ (1 : Nat) ≠ 3; omega
    exact mFt_t f1 ((h2.2 _ V τ1 m c1 pr1 (by omega)).2 nu)
  · -- ( )
    intro d p s p' h hd h2 h3
    refine ⟨Ps_bra d p s p' h hd h2.1 h3, fun W V τ m hc hpr hm => seven ?_⟩
    obtain ⟨m, rfl⟩ : ∃ j, m = j + 1 := ⟨m - 1, by omega⟩
    obtain ⟨q1, q2, q3, q4, q5, q6⟩ := hpr
    have hp := hc.2.2.2.2.2.2.2
    have hb := qT_b hS p hp
    have t1 := hb.1
    have t2 := hb.2.2.2.1 (by omega) (by omega)
    have t3 := hb.2.2.1
    have hk := hc.2.2.2.2.1
    have v6 : fv_gi τ 6 = 40 := by rw [hk.1.2.2.2.2.1 (by omega), h]; rfl
    have e19 : ¬ fv_gi τ 19 = 40 := fun e => by rw [hc.2.2.2.2.2.1.2.2.2.2, q2] at e; have := (p_eqN d 40 (by omega) (by omega)).1 e; omega
    obtain ⟨τ1, x1, f1, c1⟩ := m_e84 hS hN hc (by omega) (zX8_expression_15 N m) (q01 K) 1 ⟨by omega, by omega⟩
    have st : zX8_expression_15 N (m + 1) (q01 K) τ = zX8_expression_15 N m (q01 K) τ1 := by
      rw [m_H1 hS hp hk N m (q01 K) (by omega)]
      unfold zX8_expression_42
      rw [if_pos e19, v6, if_neg (show ¬ ¬ (40 : Int32) = 40 by decide)]
      exact x1
    rw [st]
    have pr1 : mPr 1 (d + 1) ((1, (qT B n p).2.1) :: W) V := by
      refine ⟨by simp only [List.length_cons]; omega, ?_, by simp only [List.length_cons]; omega, fun x hx => ?_, by omega, fun _ => Or.inl rfl⟩
      · show (if 1 ≤ 3 then 1 else 0) + qop W = d + 1
        rw [if_pos (by omega)]; omega
      · rcases List.mem_cons.1 hx with h | h
        · rw [h]; show 1 < 256; omega
        · exact q4 x h
    have nu : mNu ((1, (qT B n p).2.1) :: W) := fun x W' e => by
      have := (List.cons.inj e).1; rw [← this]; show (1 : Nat) ≠ 2 ∧ (1 : Nat) ≠ 3; omega
    rcases (h2.2 _ V τ1 m c1 pr1 (by omega)).2 nu with ⟨hK, f, hf, hF⟩ | ⟨τ2, m1, m2, P, V', y1, y2, y3, y4, y5, y6⟩
    · exact Or.inl ⟨hK, f, hf, mFt_t f1 hF⟩
    · obtain ⟨m2, rfl⟩ : ∃ j, m2 = j + 1 := ⟨m2 - 1, by omega⟩
      have hp' := y5.2.2.2.2.2.2.2
      have hb' := qT_b hS p' hp'
      have u1 := hb'.1
      have u2 := hb'.2.2.2.1 (by omega) (by omega)
      have f2 := mFe_t f1 y2
      obtain ⟨A, C⟩ := m_Bcl hS hN K (q := (qT B n p).2.1) y5 h3 y6.1 q4 (by have := y6.2.1; omega) (by have := y6.2.2.1; omega) (by have := y6.2.2.1; have := y6.2.1; omega) m1 m2
      rw [y1]
      rcases mP_c y6 with ⟨hK, f, hf, hq⟩ | ⟨v, V'', hq, hl, hv⟩
      · exact Or.inl ⟨hK, f, hf, mFt_t f2 (A f hq)⟩
      · obtain ⟨τ3, z1, z2, z3⟩ := C v V'' hq
        rw [z1]
        have u3 := hb'.2.2.1
        exact Or.inr ⟨τ3, m1, m2, v, V'', rfl, mFe_t f2 z2, by omega, by omega, z3, hl, hv⟩
  · -- ( without )
    intro d p s p' h hd h2 h3
    refine ⟨Ps_brw d p s p' h hd h2.1 h3, fun W V τ m hc hpr hm => seven ?_⟩
    obtain ⟨m, rfl⟩ : ∃ j, m = j + 1 := ⟨m - 1, by omega⟩
    obtain ⟨q1, q2, q3, q4, q5, q6⟩ := hpr
    have hp := hc.2.2.2.2.2.2.2
    have hb := qT_b hS p hp
    have t1 := hb.1
    have t2 := hb.2.2.2.1 (by omega) (by omega)
    have t3 := hb.2.2.1
    have hk := hc.2.2.2.2.1
    have v6 : fv_gi τ 6 = 40 := by rw [hk.1.2.2.2.2.1 (by omega), h]; rfl
    have e19 : ¬ fv_gi τ 19 = 40 := fun e => by rw [hc.2.2.2.2.2.1.2.2.2.2, q2] at e; have := (p_eqN d 40 (by omega) (by omega)).1 e; omega
    obtain ⟨τ1, x1, f1, c1⟩ := m_e84 hS hN hc (by omega) (zX8_expression_15 N m) (q01 K) 1 ⟨by omega, by omega⟩
    have st : zX8_expression_15 N (m + 1) (q01 K) τ = zX8_expression_15 N m (q01 K) τ1 := by
      rw [m_H1 hS hp hk N m (q01 K) (by omega)]
      unfold zX8_expression_42
      rw [if_pos e19, v6, if_neg (show ¬ ¬ (40 : Int32) = 40 by decide)]
      exact x1
    rw [st]
    have pr1 : mPr 1 (d + 1) ((1, (qT B n p).2.1) :: W) V := by
      refine ⟨by simp only [List.length_cons]; omega, ?_, by simp only [List.length_cons]; omega, fun x hx => ?_, by omega, fun _ => Or.inl rfl⟩
      · show (if 1 ≤ 3 then 1 else 0) + qop W = d + 1
        rw [if_pos (by omega)]; omega
      · rcases List.mem_cons.1 hx with h | h
        · rw [h]; show 1 < 256; omega
        · exact q4 x h
    have nu : mNu ((1, (qT B n p).2.1) :: W) := fun x W' e => by
      have := (List.cons.inj e).1; rw [← this]; show (1 : Nat) ≠ 2 ∧ (1 : Nat) ≠ 3; omega
    show mFt (mFl1 K e s (qwr (qT B n p'), (qT B n p').2.1)) τ _
    rcases (h2.2 _ V τ1 m c1 pr1 (by omega)).2 nu with ⟨hK, f, hf, hF⟩ | ⟨τ2, m1, m2, P, V', y1, y2, y3, y4, y5, y6⟩
    · unfold mFl1; rw [if_pos hK, hf]; exact mFt_t f1 hF
    · obtain ⟨m2, rfl⟩ : ∃ j, m2 = j + 1 := ⟨m2 - 1, by omega⟩
      have hp' := y5.2.2.2.2.2.2.2
      have f2 := mFe_t f1 y2
      have l0 := Ps_end h2.1 (Or.inl rfl) p' rfl
      obtain ⟨A, C⟩ := m_Ben hS hN K y5 (by omega) (Or.inr ⟨h3, _, _, rfl⟩) y6.1 (by simp only [List.length_cons]; have := y6.2.1; omega) (by have := y6.2.2.1; omega) (by have := y6.2.2.1; have := y6.2.1; omega) m1 m2
      rw [y1]
      rcases mP_c y6 with ⟨hK, f, hf, hq⟩ | ⟨v, V'', hq, hl, hv⟩
      · unfold mFl1; rw [if_pos hK, hf]; exact mFt_t f2 (A f hq)
      · obtain ⟨τ3, z1, z2, z3⟩ := C _ hq
        have ef : mFl1 K e s (qwr (qT B n p'), (qT B n p').2.1) = (qwr (qT B n p'), (qT B n p').2.1) := by
          unfold mFl1
          cases hK : K with
          | true => rw [if_pos rfl, (hv hK).1]
          | false => rw [if_neg (by decide)]
        rw [z1, ef]
        refine mFt_t (mFe_t f2 (mFe_s z2)) ?_
        obtain ⟨N', rfl⟩ : ∃ j, N = j + 1 := ⟨N - 1, by omega⟩
        obtain ⟨a1, a2, a3, a4⟩ := m_top z3.2.2.2.2.2.1 (by omega)
        show mFt _ _ (zX8_expression_139_b _ _ _ _)
        unfold zX8_expression_139_b
        rw [if_neg a1, a2, if_pos a3, a4, if_neg (show ¬ ¬ Int32.ofNat (qmv 1) = 1 by decide)]
        exact mFt_b (mFt_rf z3.2.2.2.2.2.2.1 z3.2.2.2.2.1.1)
  · -- too deep
    intro d p h hd
    refine ⟨Ps_dep d p h hd, fun W V τ m hc hpr hm => seven ?_⟩
    obtain ⟨m, rfl⟩ : ∃ j, m = j + 1 := ⟨m - 1, by omega⟩
    have hp := hc.2.2.2.2.2.2.2
    have hk := hc.2.2.2.2.1
    have ef : mFl1 K e qsz (2, (qT B n p).2.1) = (qwr (qT B n p), (qT B n p).2.1) := by
      unfold mFl1 qwr; rw [if_neg (by omega : ¬ (qT B n p).1 = 6)]
      split <;> rfl
    show mFt (mFl1 K e qsz (2, (qT B n p).2.1)) τ _
    rw [ef, m_H1 hS hp hk N m (q01 K) h]
    unfold zX8_expression_42
    rw [if_neg (show ¬ ¬ fv_gi τ 19 = 40 from not_not_intro (by rw [hc.2.2.2.2.2.1.2.2.2.2, hpr.2.1, hd]; rfl))]
    exact mFt_b (mFt_rf hc.2.2.2.2.2.2.1 hk.1)
  · -- none of these
    intro d p h
    refine ⟨Ps_bad d p h, fun W V τ m hc hpr hm => seven ?_⟩
    obtain ⟨m, rfl⟩ : ∃ j, m = j + 1 := ⟨m - 1, by omega⟩
    have hp := hc.2.2.2.2.2.2.2
    have hb := qT_b hS p hp
    have hk := hc.2.2.2.2.1
    have e3 := (m_k hk.1 3 (by omega)).trans (qmk_e (qT B n p).1).2.2.2.1
    have e2 := (m_k hk.1 2 (by omega)).trans (qmk_e (qT B n p).1).2.2.1
    have ef : mFl1 K e qsz (qwr (qT B n p), (qT B n p).2.1) = (qwr (qT B n p), (qT B n p).2.1) := by
      unfold mFl1; split <;> rfl
    show mFt (mFl1 K e qsz (qwr (qT B n p), (qT B n p).2.1)) τ _
    rw [ef]
    refine flt W V τ m p _ hc ⟨by omega, by omega, by omega⟩ ?_
    unfold zX8_operand
    rw [if_pos (show ¬ fv_gi τ 3 = 3 from fun e => by have := e3.1 e; omega), show zX8_isSign 64 τ = _ from m_sgn hb hk.1 64 rfl, fv_bi_ri, show ((qT B n p).1 == 64) = false by simp; omega, if_pos (show q01 false = 0 by decide), if_pos (show ¬ fv_gi τ 3 = 2 from fun e => by have := e2.1 e; omega)]
    unfold zX8_operand_103
    exact mFt_b (mFt_rf hc.2.2.2.2.2.2.1 hk.1)
  · -- a level, with a fault
    intro l d p s f h1 h6 h
    refine ⟨Ps_lvt l d p s f h1 h6 h.1, fun W V τ m hc hpr hm => ⟨fun e => by omega, fun hW => ?_⟩⟩
    exact (h.2 W V τ m hc (mPr_s h1 h6 hpr) hm).2 hW
  · -- a level
    intro l d p s p' s' o h1 h6 h h2
    refine ⟨Ps_lv l d p s p' s' o h1 h6 h.1 h2.1, fun W V τ m hc hpr hm => ⟨fun e => by omega, fun hW => ?_⟩⟩
    rcases (h.2 W V τ m hc (mPr_s h1 h6 hpr) hm).2 hW with ⟨hK, f, hf, hF⟩ | ⟨τ2, m1, m2, P, V', y1, y2, y3, y4, y5, y6⟩
    · exact mRs_f hK (Ps_pf h2.1 e s rfl f hf) hF
    · rw [y1]
      exact mRs_t y2 (h2.2 W V P V' τ2 m1 m2 y5 hpr (mP_s y6) y3 y4)
  · -- a loop's end
    intro s l d p h1 h6 h
    refine ⟨Ps_stop s l d p h1 h6 h, fun W V P0 V0 τ m1 m2 hc hpr hP hm1 hm2 => ?_⟩
    exact Or.inr ⟨τ, m1, m2, P0, V0, rfl, mFe_r τ, hm1, hm2, hc, hP⟩
  · -- a loop, with a fault
    intro s l d p s2 f h1 h6 h h2
    refine ⟨Ps_opt s l d p s2 f h1 h6 h h2.1, fun W V P0 V0 τ m1 m2 hc hpr hP hm1 hm2 => ?_⟩
    obtain ⟨m2, rfl⟩ : ∃ j, m2 = j + 1 := ⟨m2 - 1, by omega⟩
    obtain ⟨q1, q2, q3, q4, q5, q6⟩ := hpr
    have hp := hc.2.2.2.2.2.2.2
    have hb := qT_b hS p hp
    have hkk := qlv_k (k := (qT B n p).1) (by omega)
    have t1 := hb.1
    have t2 := hb.2.2.2.1 hkk.1 hkk.2.1
    have t3 := hb.2.2.1
    have p2 := hP.2.1
    have p3 := hP.2.2.1
    obtain ⟨A, C⟩ := m_Bop hS hN K hc (by omega) (fun x hx => by rw [h]; exact hP.1 x hx) (by rw [h]; exact q6 h6) (by omega) (by omega) (by omega) m1 m2
    rcases mP_c hP with ⟨hK, g, hg, hq⟩ | ⟨v0, V1, hq, hl, hv⟩
    · exact mRs_f hK (show (qth s s2 e).1 = some g by show qoe (s e).1 _ = _; rw [hg]; rfl) (A g hq)
    · obtain ⟨τ1, z1, z2, z3⟩ := C _ hq
      have bk := qmv_bin (k := (qT B n p).1) (by omega)
      have pr1 : mPr (l + 1) d (((qT B n p).1, (qT B n p).2.1) :: W) (v0 :: V1) := by
        refine ⟨by simp only [List.length_cons]; omega, ?_, by simp only [List.length_cons]; omega, fun x hx => ?_, q5, fun _ => Or.inr ⟨by show 1 ≤ qlv (qT B n p).1; omega, by show qlv (qT B n p).1 < l + 1; omega⟩⟩
        · show (if (qT B n p).1 ≤ 3 then 1 else 0) + qop W = d
          rw [if_neg (by omega)]; omega
        · rcases List.mem_cons.1 hx with hx | hx
          · rw [hx]; exact bk.1
          · exact q4 x hx
      have nu : mNu (((qT B n p).1, (qT B n p).2.1) :: W) := fun x W' e => by
        have := (List.cons.inj e).1; rw [← this]; show (qT B n p).1 ≠ 2 ∧ (qT B n p).1 ≠ 3; omega
      have ih := (h2.2 _ _ τ1 m1 z3 pr1 (by omega)).2 nu
      rw [z1]
      have ef : mFl1 K e (qth s s2) f = mFl1 K e s2 f := by
        unfold mFl1
        cases hK : K with
        | true => rw [if_pos rfl, if_pos rfl, show (qth s s2 e).1 = (s2 e).1 by show qoe (s e).1 _ = _; rw [(hv hK).1]; rfl]
        | false => rfl
      show mFt (mFl1 K e (qth s s2) f) τ _
      rw [ef]
      exact mFt_t z2 ih
  · -- a loop's turn
    intro s l d p s2 p' s' o h1 h6 h h2 h3
    refine ⟨Ps_op s l d p s2 p' s' o h1 h6 h h2.1 h3.1, fun W V P0 V0 τ m1 m2 hc hpr hP hm1 hm2 => ?_⟩
    obtain ⟨m2, rfl⟩ : ∃ j, m2 = j + 1 := ⟨m2 - 1, by omega⟩
    have hpr0 := hpr
    obtain ⟨q1, q2, q3, q4, q5, q6⟩ := hpr
    have hp := hc.2.2.2.2.2.2.2
    have hb := qT_b hS p hp
    have hkk := qlv_k (k := (qT B n p).1) (by omega)
    have t1 := hb.1
    have t2 := hb.2.2.2.1 hkk.1 hkk.2.1
    have t3 := hb.2.2.1
    have p2 := hP.2.1
    have p3 := hP.2.2.1
    obtain ⟨A, C⟩ := m_Bop hS hN K hc (by omega) (fun x hx => by rw [h]; exact hP.1 x hx) (by rw [h]; exact q6 h6) (by omega) (by omega) (by omega) m1 m2
    have pf : ∀ g, (qcm (qT B n p).1 (qT B n p).2.1 s s2 e).1 = some g → (s' e).1 = some g := fun g hg => Ps_pf h3.1 e _ rfl g hg
    rcases mP_c hP with ⟨hK, g, hg, hq⟩ | ⟨v0, V1, hq, hl, hv⟩
    · exact mRs_f hK (pf g (by show qoe (s e).1 _ = _; rw [hg]; rfl)) (A g hq)
    · obtain ⟨τ1, z1, z2, z3⟩ := C _ hq
      have bk := qmv_bin (k := (qT B n p).1) (by omega)
      have pr1 : mPr (l + 1) d (((qT B n p).1, (qT B n p).2.1) :: W) (v0 :: V1) := by
        refine ⟨by simp only [List.length_cons]; omega, ?_, by simp only [List.length_cons]; omega, fun x hx => ?_, q5, fun _ => Or.inr ⟨by show 1 ≤ qlv (qT B n p).1; omega, by show qlv (qT B n p).1 < l + 1; omega⟩⟩
        · show (if (qT B n p).1 ≤ 3 then 1 else 0) + qop W = d
          rw [if_neg (by omega)]; omega
        · rcases List.mem_cons.1 hx with hx | hx
          · rw [hx]; exact bk.1
          · exact q4 x hx
      have nu : mNu (((qT B n p).1, (qT B n p).2.1) :: W) := fun x W' e => by
        have := (List.cons.inj e).1; rw [← this]; show (qT B n p).1 ≠ 2 ∧ (qT B n p).1 ≠ 3; omega
      rw [z1]
      rcases (h2.2 _ _ τ1 m1 z3 pr1 (by omega)).2 nu with ⟨hK, f, hf, hF⟩ | ⟨τ2, m1', m2', P, V', y1, y2, y3, y4, y5, y6⟩
      · refine mRs_f hK (pf f ?_) (mFt_t z2 hF)
        show qoe (s e).1 (qoe (s2 e).1 _) = _
        rw [(hv hK).1, hf]; rfl
      · rw [y1]
        have y62 := y6.2.1
        have y63 := y6.2.2.1
        simp only [List.length_cons] at y63
        have ea : P ++ ((qT B n p).1, (qT B n p).2.1) :: W = (P ++ [((qT B n p).1, (qT B n p).2.1)]) ++ W := by simp
        rw [ea] at y5
        refine mRs_t (mFe_t z2 y2) (h3.2 W V _ V' τ2 m1' m2' y5 hpr0 ⟨fun x hx => ?_, by rw [List.length_append]; simp only [List.length_cons, List.length_nil]; omega, by rw [List.length_append]; simp only [List.length_cons, List.length_nil]; omega, fun hK => ?_⟩ y3 y4)
        · rcases List.mem_append.1 hx with hx | hx
          · have := y6.1 x hx; omega
          · rw [List.mem_singleton] at hx; rw [hx]; show l ≤ qlv (qT B n p).1; omega
        · obtain ⟨r1, r2, r3⟩ := hv hK
          obtain ⟨g1, g2⟩ := y6.2.2.2 hK
          have ec : (qcm (qT B n p).1 (qT B n p).2.1 s s2 e).1 = qoe (s2 e).1 (if (qT B n p).1 = 47 ∧ (s2 e).2 = 0 then some (5, (qT B n p).2.1) else none) := by show qoe (s e).1 _ = _; rw [r1]; rfl
          rw [ec, qpp_app K P _ V' (by omega)]
          cases hs2 : (s2 e).1 with
          | some f =>
            rw [g1 f hs2]
            exact ⟨fun g hg => by rw [← Option.some.inj hg], fun hg => absurd hg (by simp [qoe])⟩
          | none =>
            rw [g2 hs2]
            show (∀ g, (if (qT B n p).1 = 47 ∧ (s2 e).2 = 0 then some (5, (qT B n p).2.1) else none) = some g → qpp K [((qT B n p).1, (qT B n p).2.1)] ((s2 e).2 :: v0 :: V1) = _) ∧ ((if (qT B n p).1 = 47 ∧ (s2 e).2 = 0 then some (5, (qT B n p).2.1) else none) = none → qpp K [((qT B n p).1, (qT B n p).2.1)] ((s2 e).2 :: v0 :: V1) = _)
            rw [qpp_c]
            by_cases c : (qT B n p).1 = 47 ∧ (s2 e).2 = 0
            · rw [if_pos c, if_pos c, if_pos hK]
              exact ⟨fun g hg => by rw [← Option.some.inj hg], fun hg => absurd hg (by simp)⟩
            · rw [if_neg c, if_neg c]
              refine ⟨fun g hg => absurd hg (by simp), fun _ => ?_⟩
              show (Sum.inr (qap (qT B n p).1 v0 (s2 e).2 :: V1) : (Nat × Nat) ⊕ List Int32) = .inr (qap (qT B n p).1 (s e).2 (s2 e).2 :: V)
              rw [r2, r3]
