set_option maxRecDepth 100000
set_option maxHeartbeats 4000000
/-! The plain law: operands are read, in the class and in the model. -/
theorem mOo_b {B : Nat → Nat} {n : Nat} {sec : Bool} {L : List (List Nat × Int32)} {h : Nat} {I : List (Bool × Bool)} {org o : Nat} {d : Nat × Nat × Bool × Nat × qOu} {τ : fv_S} {out : Option fv_O} (H : mOo B n sec L h I org o d τ out) : mOo B n sec L h I org o d τ (fv_bi out (fun r s => if r = 0 ∨ r = 1 then fv_ri r s else none) fv_no) := by
  refine ⟨fun f hf => mFx_b (H.1 f hf), fun p' hp' => ?_⟩
  rcases H.2 p' hp' with ⟨τ', y1, y2⟩ | ⟨y1, y2, y3⟩
  · rw [y1, fv_bi_ri, if_pos (Or.inr rfl)]; exact Or.inl ⟨τ', rfl, y2⟩
  · exact Or.inr ⟨y1, y2, mFx_b y3⟩
theorem m_opd {B : Nat → Nat} {n N p : Nat} (hS : qS B n) (hN : 7000 ≤ N) {sec : Bool} {L : List (List Nat × Int32)} {h : Nat} {I : List (Bool × Bool)} {org o : Nat} (ho : o < 2) {τ : fv_S} (z : mZ B n sec L h I org τ) (k : qMt B (qT B n p) τ) (hp : p ≤ n) (h28 : fv_gi τ 28 = Int32.ofNat o) :
    (∀ f, (qOp B n p).2.2.2.2 = .inl f → mFx f τ (zX8_readOperand N τ)) ∧ (∀ p', (qOp B n p).2.2.2.2 = .inr p' → (∃ τ', zX8_readOperand N τ = fv_ri 1 τ' ∧ mFq o τ τ' ∧ fv_gi τ' 28 = Int32.ofNat (o + 1) ∧ mZ B n sec L h I org τ' ∧ qMt B (qT B n p') τ' ∧ p' ≤ n ∧ mOd B n o (qOp B n p).1 (qOp B n p).2.1 (qOp B n p).2.2.1 (qOp B n p).2.2.2.1 τ') ∨ ((qT B n p').1 ≠ 0 ∧ (qT B n p').1 ≠ 44 ∧ mFx (qwr (qT B n p'), (qT B n p').2.1) τ (zX8_readOperand N τ))) := by
  have hn := hS.1
  have hb := qT_b hS p hp
  obtain ⟨i1, i2⟩ := p_inN o 8 (by omega) (by omega)
  have rd : ∀ (s : fv_S) (k : Nat) (v : Int32), fv_gw (fv_sa s k (Int32.ofNat o) v) k o = v := fun s k v => by
    have := s_ak s k (Int32.ofNat o) v
    rw [i2] at this; exact this
  unfold zX8_readOperand
  rw [h28, if_neg (show ¬ (8 : Int32) ≤ Int32.ofNat o from fun e => by have := (p_leN 8 o (by omega) (by omega)).1 e; omega)]
  unfold zX8_readOperand_18
  rw [if_pos i1, if_pos i1, if_pos i1, if_pos i1, if_pos i1, h28, p_sucN, k.1.2.2.1, show vp_nar .boolean 0 = 0 by decide +kernel]
  generalize hs : fv_si (fv_sa (fv_sa (fv_sa (fv_sa (fv_sa τ 8 (Int32.ofNat o) 16) 9 (Int32.ofNat o) 0) 10 (Int32.ofNat o) (Int32.ofNat (qT B n p).2.1)) 11 (Int32.ofNat o) 0) 12 (Int32.ofNat o) 0) 28 (Int32.ofNat (o + 1)) = τ1
  have fq : mFq o τ τ1 := by
    rw [← hs]
    have := mFq_sa (show o < 8 by omega) (mFq_sa (show o < 8 by omega) (mFq_sa (show o < 8 by omega) (mFq_sa (show o < 8 by omega) (mFq_sa (show o < 8 by omega) (mFq_r o τ) 8 16 (by omega)) 9 0 (by omega)) 10 (Int32.ofNat (qT B n p).2.1) (by omega)) 11 0 (by omega)) 12 0 (by omega)
    exact ⟨fun k h1 h2 h3 h4 h5 h6 h7 h8 => (if_neg h8).trans (this.1 k h1 h2 h3 h4 h5 h6 h7 h8), this.2.1, this.2.2.1, this.2.2.2.1, this.2.2.2.2⟩
  have g28 : fv_gi τ1 28 = Int32.ofNat (o + 1) := by rw [← hs]; rfl
  have gi : ∀ k, k ≠ 28 → fv_gi τ1 k = fv_gi τ k := fun k hk => by rw [← hs]; exact if_neg hk
  have g8 : fv_gw τ1 8 o = 16 := by
    rw [← hs]; show fv_gw (fv_sa (fv_sa (fv_sa (fv_sa (fv_sa τ 8 (Int32.ofNat o) 16) 9 (Int32.ofNat o) 0) 10 (Int32.ofNat o) (Int32.ofNat (qT B n p).2.1)) 11 (Int32.ofNat o) 0) 12 (Int32.ofNat o) 0) 8 o = 16
    rw [s_an _ _ _ _ _ (by omega), s_an _ _ _ _ _ (by omega), s_an _ _ _ _ _ (by omega), s_an _ _ _ _ _ (by omega)]; exact rd _ _ _
  have g9 : fv_gw τ1 9 o = 0 := by
    rw [← hs]; show fv_gw (fv_sa (fv_sa (fv_sa (fv_sa (fv_sa τ 8 (Int32.ofNat o) 16) 9 (Int32.ofNat o) 0) 10 (Int32.ofNat o) (Int32.ofNat (qT B n p).2.1)) 11 (Int32.ofNat o) 0) 12 (Int32.ofNat o) 0) 9 o = 0
    rw [s_an _ _ _ _ _ (by omega), s_an _ _ _ _ _ (by omega), s_an _ _ _ _ _ (by omega)]; exact rd _ _ _
  have g10 : fv_gw τ1 10 o = Int32.ofNat (qT B n p).2.1 := by
    rw [← hs]; show fv_gw (fv_sa (fv_sa (fv_sa (fv_sa (fv_sa τ 8 (Int32.ofNat o) 16) 9 (Int32.ofNat o) 0) 10 (Int32.ofNat o) (Int32.ofNat (qT B n p).2.1)) 11 (Int32.ofNat o) 0) 12 (Int32.ofNat o) 0) 10 o = _
    rw [s_an _ _ _ _ _ (by omega), s_an _ _ _ _ _ (by omega)]; exact rd _ _ _
  have g11 : fv_gw τ1 11 o = 0 := by
    rw [← hs]; show fv_gw (fv_sa (fv_sa (fv_sa (fv_sa (fv_sa τ 8 (Int32.ofNat o) 16) 9 (Int32.ofNat o) 0) 10 (Int32.ofNat o) (Int32.ofNat (qT B n p).2.1)) 11 (Int32.ofNat o) 0) 12 (Int32.ofNat o) 0) 11 o = 0
    rw [s_an _ _ _ _ _ (by omega)]; exact rd _ _ _
  have g12 : fv_gw τ1 12 o = 0 := by
    rw [← hs]; exact rd _ _ _
  have gl : τ1.2.1 = τ.2.1 := by rw [← hs]; rfl
  clear hs
  have z1 := mZ_p z fq ((gi 8 (by omega)).trans z.2.2.2.2.2.1)
  have k1 : qMt B (qT B n p) τ1 := by
    refine ⟨⟨(gi 2 (by omega)).trans k.1.1, (gi 3 (by omega)).trans k.1.2.1, (gi 4 (by omega)).trans k.1.2.2.1, fun x => (gi 6 (by omega)).trans (k.1.2.2.2.1 x), fun x => (gi 6 (by omega)).trans (k.1.2.2.2.2.1 x), ?_⟩, (gi 5 (by omega)).trans k.2⟩
    show τ1.2.1 7 = _
    rw [gl]; exact k.1.2.2.2.2.2
  suffices H : mOo B n sec L h I org o (qOp B n p) τ1 (fv_bi (zX8_isSign 40 τ1) (fun r20 σ19 => if r20 = 0 then zX8_readOperand_90 N (Int32.ofNat o) σ19 else fv_bi (zX8_isPlace N σ19) (fun r22 σ21 => if r22 = 0 then zX8_readOperand_90 N (Int32.ofNat o) σ21 else fv_bi (zX8_readPlace N (Int32.ofNat o) σ21) (fun r24 σ23 => if r24 = 0 ∨ r24 = 1 then fv_ri r24 σ23 else none) fv_no) fv_no) fv_no) by
    refine ⟨fun f hf => mFx_t (mFo_p fq) (H.1 f hf), fun p' hp' => ?_⟩
    rcases H.2 p' hp' with ⟨τ', y1, y2, y3, y4⟩ | ⟨y1, y2, y3⟩
    · exact Or.inl ⟨τ', y1, mFq_t fq y2, y3.trans g28, y4⟩
    · exact Or.inr ⟨y1, y2, mFx_t (mFo_p fq) y3⟩
  -- no ( ) as a whole
  have e90 : ∀ s : fv_S, qFt τ1 s → qMt B (qT B n p) s → ¬ ((qT B n p).1 = 40 ∧ qWo B n p = true) → mOo B n sec L h I org o (qOp B n p) s (zX8_readOperand_90 N (Int32.ofNat o) s) := by
    intro s fs ks h1
    have zs := mZ_q z1 fs
    have gws : ∀ a i, fv_gw s a i = fv_gw τ1 a i := fun a i => by show s.2.2.1 a i = _; rw [fs.2.1]
    have e2 := (m_k ks.1 2 (by omega)).trans (qmk_e (qT B n p).1).2.2.1
    have e148 : ¬ (75 ≤ qrt B (qT B n p) ∧ qrt B (qT B n p) < 99 ∧ ((qT B n (qT B n p).2.2.1).1 = 0 ∨ (qT B n (qT B n p).2.2.1).1 = 44)) → mOo B n sec L h I org o (qOp B n p) s (zX8_readOperand_148 N s) := by
      intro h2
      rw [(qOp_3 h1).2 h2]
      unfold zX8_readOperand_148
      refine mOo_b ?_
      obtain ⟨A, C, D⟩ := m_ek (N := N) hS hN zs hp ks false
      refine ⟨fun f hf => C rfl f hf, fun p' hp' => Or.inl ?_⟩
      obtain ⟨τ', y1, y2, y3, y4, y5, _⟩ := D rfl p' hp'
      have g : ∀ a, 8 ≤ a → fv_gw τ' a o = fv_gw τ1 a o := fun a ha => (congrFun (y2.2.2.1 a (by omega) (by omega) (by omega)) o).trans (gws a o)
      refine ⟨τ', y1, mFq_e y2, y2.1 28 (by omega) (by omega) (by omega) (by omega) (by omega) (by omega) (by omega), y4, y3, y5, ?_, ?_, ?_, ?_, fun _ => ?_⟩
      · rw [g 8 (by omega), g8]; rfl
      · rw [g 9 (by omega), g9]; rfl
      · rw [g 12 (by omega), g12]; rfl
      · rw [g 11 (by omega), g11]; rfl
      · rw [g 10 (by omega), g10]
    unfold zX8_readOperand_90
    by_cases t1 : (qT B n p).1 = 1
    · obtain ⟨hz, _⟩ := qna_nz hS t1
      have ert : qrt B (qT B n p) = qri (qna B (qT B n p)) := by unfold qrt; rw [if_pos t1]
      have w7 : fv_gl s 7 = qwd (qna B (qT B n p)) := by rw [ks.1.2.2.2.2.2, if_pos t1]; rfl
      rw [if_neg (show ¬ ¬ fv_gi s 3 = 2 from not_not_intro (e2.2 t1)), w7, m_isReg hz, fv_bi_ri, ← ert]
      by_cases c75 : 75 ≤ qrt B (qT B n p) ∧ qrt B (qT B n p) < 99
      · rw [if_pos c75.2]
        show mOo B n sec L h I org o (qOp B n p) s (if (if 75 ≤ qrt B (qT B n p) then (1 : Int32) else 0) = 0 then _ else _)
        rw [if_pos c75.1, if_neg (show ¬ (1 : Int32) = 0 by decide)]
        have hlt := hb.2.2.2.1 (by omega) (by omega)
        have hp1 := hb.2.2.1
        obtain ⟨τ3, x3, f3, k3⟩ := m_go (N := N) hS hN hp zs.1 ks
        have z3 := mZ_q zs f3
        rw [x3, fv_bv_rv, m_ends (qT_b hS _ hp1) k3.1, fv_bi_ri]
        by_cases ca : (qT B n (qT B n p).2.2.1).1 = 0 ∨ (qT B n (qT B n p).2.2.1).1 = 44
        · have eb : ((qT B n (qT B n p).2.2.1).1 == 0 || (qT B n (qT B n p).2.2.1).1 == 44) = true := by
            rcases ca with e | e <;> rw [e] <;> rfl
          rw [eb, if_neg (show ¬ q01 true = 0 by decide), (qOp_3 h1).1 ⟨c75.1, c75.2, ca⟩]
          have g3 : ∀ a, fv_gw τ3 a o = fv_gw τ1 a o := fun a => (show fv_gw τ3 a o = fv_gw s a o by show τ3.2.2.1 a o = _; rw [f3.2.1]).trans (gws a o)
          have el : qna B (qT B n p) = p_nm (qrt B (qT B n p)) := by rw [ert]; exact (qri_lt (by omega)).symm
          obtain ⟨τ4, x4, f4, gi4, gl4, a8, a9, ar⟩ := m_setR (o := o) (by omega) c75.1 c75.2 (τ := τ3) ((g3 9).trans g9)
          rw [w7, el, x4, fv_bv_rv]
          refine ⟨fun f hf => absurd hf (by simp), fun p' hp' => Or.inl ?_⟩
          have := Sum.inr.inj hp'
          subst this
          refine ⟨τ4, rfl, mFq_t (mFq_q f3) f4, (gi4 28).trans (f3.1 28 (by omega)), mZ_p z3 f4 ((gi4 8).trans z3.2.2.2.2.2.1), ?_, hp1, a8, a9, ?_, ?_, fun h4 => by omega⟩
          · refine ⟨⟨(gi4 2).trans k3.1.1, (gi4 3).trans k3.1.2.1, (gi4 4).trans k3.1.2.2.1, fun x => (gi4 6).trans (k3.1.2.2.2.1 x), fun x => (gi4 6).trans (k3.1.2.2.2.2.1 x), ?_⟩, (gi4 5).trans k3.2⟩
            show τ4.2.1 7 = _
            rw [gl4]; exact k3.1.2.2.2.2.2
          · rw [ar 12 (by omega) (by omega), g3, g12]; rfl
          · rw [ar 11 (by omega) (by omega), g3, g11]; rfl
        · have eb : ((qT B n (qT B n p).2.2.1).1 == 0 || (qT B n (qT B n p).2.2.1).1 == 44) = false := by simp; omega
          rw [eb, if_pos (show q01 false = 0 by decide), ks.1.2.2.1]
          obtain ⟨τ4, x4, f4, k4⟩ := m_goTo (N := N) hS hN hb.2.1 z3.1
          rw [(qT_pl hS (by omega)).1] at k4
          rw [x4, fv_bv_rv, (qOp_3 h1).2 (fun e => ca e.2.2), qEX_rs hS hp c75.2]
          refine ⟨fun f hf => ?_, fun p' hp' => absurd hp' (by simp)⟩
          have := Sum.inl.inj hf
          subst this
          have z4 := mZ_q z3 f4
          have wr : (2, (qT B n p).2.1) = (qwr (qT B n p), (qT B n p).2.1) := by unfold qwr; rw [if_neg (by omega)]
          rw [wr]
          exact mFx_t (mFo_q (qFt_t f3 f4)) (mFx_b (mFx_f (mFt_rf z4.2.2.2.2.2.1 k4.1)))
      · have e0 : (if qrt B (qT B n p) < 99 then (fun j => if 75 ≤ j then (1 : Int32) else 0) (qrt B (qT B n p)) else 0) = 0 := by
          by_cases c : qrt B (qT B n p) < 99
          · rw [if_pos c]; show (if 75 ≤ qrt B (qT B n p) then (1 : Int32) else 0) = 0; rw [if_neg (by omega)]
          · rw [if_neg c]
        rw [e0, if_pos rfl]
        exact e148 (fun e => c75 ⟨e.1, e.2.1⟩)
    · rw [if_pos (show ¬ fv_gi s 3 = 2 from fun e => t1 (e2.1 e))]
      exact e148 (fun e => t1 (qrt_lt rfl e.2.1))
  rw [show zX8_isSign 40 τ1 = _ from m_sgn hb k1.1 40 rfl, fv_bi_ri]
  by_cases c40 : (qT B n p).1 = 40
  · rw [show ((qT B n p).1 == 40) = true by simp [c40], if_neg (show ¬ q01 true = 0 by decide)]
    obtain ⟨τ2, x2, f2, k2⟩ := m_plc (N := N) hS hN z1.1 hp k1 c40
    rw [x2, fv_bi_ri]
    refine mOo_t (mFq_q f2) (f2.1 28 (by omega)) ?_
    have gw2 : ∀ a i, fv_gw τ2 a i = fv_gw τ1 a i := fun a i => by show τ2.2.2.1 a i = _; rw [f2.2.1]
    cases hw : qWo B n p with
    | false => rw [if_pos (show q01 false = 0 by decide)]; exact e90 τ2 f2 k2 (fun e => by rw [hw] at e; exact absurd e.2 (by decide))
    | true =>
      rw [if_neg (show ¬ q01 true = 0 by decide)]
      exact mOo_b (m_plo (N := N) hS hN ho (mZ_q z1 f2) k2 hp ((gw2 9 o).trans g9) ((gw2 11 o).trans g11) ((gw2 12 o).trans g12) c40 hw)
  · rw [show ((qT B n p).1 == 40) = false by simp [c40], if_pos (show q01 false = 0 by decide)]
    exact e90 τ1 (qFt_r τ1) k1 (fun e => c40 e.1)
