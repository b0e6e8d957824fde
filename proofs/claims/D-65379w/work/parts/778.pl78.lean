set_option maxRecDepth 100000
set_option maxHeartbeats 4000000
/-! The plain law: the class reads operands. -/
/-- what is told of an operand -/
noncomputable def qOg (B : Nat → Nat) (n : Nat) (sec : Bool) (L : List (List Nat × Int32)) (org : Nat) (d : Nat × Nat × Bool × Nat × qOu) : Option (Nat × Nat) := if sec = true ∧ 4 ≤ d.1 then ((qEX B n d.2.2.2.1).1 (qen L org)).1 else none
theorem x_opd {B : Nat → Nat} {n N p : Nat} (hS : qS B n) (hN : 7000 ≤ N) {sec : Bool} {L : List (List Nat × Int32)} {h : Nat} {I : List (Bool × Bool)} {org : Nat} {G : Option (Nat × Nat)} {σ : fv_S} (P : xP B n sec L h I org G p σ) {o : Nat} (ho : o < 2) (h55 : fv_gi σ 1555 = Int32.ofNat o) :
    (∀ f, (qOp B n p).2.2.2.2 = .inl f → xTh o (qoe G (qOg B n sec L org (qOp B n p))) f σ (zX3_operand N σ)) ∧
    (∀ p', (qOp B n p).2.2.2.2 = .inr p' → ∃ σ', zX3_operand N σ = fv_rv σ' ∧ fv_n σ' = fv_n σ ∧ xFp o σ σ' ∧ fv_gi σ' 1555 = Int32.ofNat (o + 1) ∧ xP B n sec L h I org (qoe G (qOg B n sec L org (qOp B n p))) p' σ' ∧ xOd B n sec L org o (qOp B n p).1 (qOp B n p).2.1 (qOp B n p).2.2.1 (qOp B n p).2.2.2.1 σ') := by
  have hn := hS.1
  obtain ⟨i1, i2⟩ := p_inN o 2 ho (by omega)
  have rd : ∀ (s : fv_S) (k : Nat) (v : Int32), fv_gw (fv_sa s k (Int32.ofNat o) v) k o = v := fun s k v => by
    have := s_ak s k (Int32.ofNat o) v
    rw [i2] at this; exact this
  have Pa := xP_a ho P 23 0 (by omega)
  have hp := P.2.1.1
  have hb := qT_b hS p hp
  obtain ⟨σ1, x1, f1, k1⟩ := x_look (N := N) hS hN Pa.1.1 Pa.2.1
  have P1 := xP_g Pa f1 (xAt_of hp k1) (Nat.le_refl _)
  have gw1 : ∀ a i, fv_gw σ1 a i = fv_gw (fv_sa σ 23 (Int32.ofNat o) 0) a i := fun a i => by show σ1.2.2.1 a i = _; rw [f1.2]
  have h23 : fv_gw σ1 23 o = 0 := by rw [gw1]; exact rd _ _ _
  have fp1 : xFp o σ σ1 := xFp_t (xFp_sa ho (xFp_r o σ) 23 0 (by omega)) (xFp_g f1)
  have n1 : fv_n σ1 = fv_n σ := (qGx_n f1).trans rfl
  have e55 : fv_gi σ1 1555 = Int32.ofNat o := (f1.1 1555 (by omega)).trans h55
  have start : zX3_operand N σ = zX3_operand_33 N (Int32.ofNat o) (qxk n (qT B n p)) (qxi (qrt B (qT B n p)) 99) σ1 := by
    unfold zX3_operand
    rw [h55, if_pos i1, show vp_nar .boolean 0 = 0 by decide +kernel, x1, fv_bi_ri]
    exact x_rsv hS hN P1.1.1 hp k1 (fun r s => zX3_operand_33 N (Int32.ofNat o) (qxk n (qT B n p)) r s)
  rw [start]
  -- what is left: one more operand is there
  have fin : ∀ (d : Nat × Nat × Bool × Nat × qOu) (out : Option fv_O), xOo B n sec L h I org o G d σ1 out → (∀ f, d.2.2.2.2 = .inl f → xTh o (qoe G (qOg B n sec L org d)) f σ (fv_bv out (fun σ12 => zX3_operand_114 N σ12) fv_th)) ∧ (∀ p', d.2.2.2.2 = .inr p' → ∃ σ', fv_bv out (fun σ12 => zX3_operand_114 N σ12) fv_th = fv_rv σ' ∧ fv_n σ' = fv_n σ ∧ xFp o σ σ' ∧ fv_gi σ' 1555 = Int32.ofNat (o + 1) ∧ xP B n sec L h I org (qoe G (qOg B n sec L org d)) p' σ' ∧ xOd B n sec L org o d.1 d.2.1 d.2.2.1 d.2.2.2.1 σ') := by
    intro d out H
    refine ⟨fun f hf => xTh_b (xTh_t fp1 n1 (H.1 f hf)) _, fun p' hp' => ?_⟩
    obtain ⟨σ2, y1, y2, y3, y4, y5, y6⟩ := H.2 p' hp'
    rw [y1, fv_bv_rv]
    unfold zX3_operand_114
    rw [y4, e55, p_sucN]
    refine ⟨_, rfl, y2.trans n1, ?_, rfl, ⟨?_, xAt_c y5.2.1 (fun k h1 h2 => if_neg (by omega)), xR_c y5.2.2.1 rfl rfl, y5.2.2.2⟩, y6⟩
    · have := xFp_t fp1 y3
      exact ⟨fun k h1 h2 h3 h4 h5 h6 h7 => (if_neg h1).trans (this.1 k h1 h2 h3 h4 h5 h6 h7), this.2.1, this.2.2.1, this.2.2.2⟩
    · obtain ⟨z1, z2, z3, z4, z5, z6, z7, z8, z9⟩ := y5.1
      exact ⟨⟨z1.1, z1.2⟩, ⟨z2.1, z2.2⟩, z3, z4, z5, z6, z7, z8, xIf_c I σ2 _ (fun _ _ => ⟨rfl, rfl, rfl⟩) z9⟩
  -- an expression
  have e98 : ∀ s : fv_S, qGx σ1 s → xAt B n p s → ¬ ((qT B n p).1 = 40 ∧ qWo B n p = true) → ¬ (75 ≤ qrt B (qT B n p) ∧ qrt B (qT B n p) < 99 ∧ ((qT B n (qT B n p).2.2.1).1 = 0 ∨ (qT B n (qT B n p).2.2.1).1 = 44)) →
      (∀ f, (qOp B n p).2.2.2.2 = .inl f → xTh o (qoe G (qOg B n sec L org (qOp B n p))) f σ (zX3_operand_98 N (Int32.ofNat o) s)) ∧ (∀ p', (qOp B n p).2.2.2.2 = .inr p' → ∃ σ', zX3_operand_98 N (Int32.ofNat o) s = fv_rv σ' ∧ fv_n σ' = fv_n σ ∧ xFp o σ σ' ∧ fv_gi σ' 1555 = Int32.ofNat (o + 1) ∧ xP B n sec L h I org (qoe G (qOg B n sec L org (qOp B n p))) p' σ' ∧ xOd B n sec L org o (qOp B n p).1 (qOp B n p).2.1 (qOp B n p).2.2.1 (qOp B n p).2.2.2.1 σ') := by
    intro s fs as h1 h2
    rw [(qOp_3 h1).2 h2]
    have Ps := xP_g P1 fs as (Nat.le_refl _)
    have P2 := xP_a ho Ps 21 5 (by omega)
    have fp2 : xFp o σ1 (fv_sa s 21 (Int32.ofNat o) 5) := xFp_sa ho (xFp_g fs) 21 5 (by omega)
    have n2 : fv_n (fv_sa s 21 (Int32.ofNat o) 5) = fv_n σ1 := (show fv_n s = fv_n σ1 from qGx_n fs)
    obtain ⟨A, C⟩ := x_oex (N := N) hS hN P2 ho false (fun σ4 => zX3_operand_114 N σ4)
    have ez : zX3_operand_98 N (Int32.ofNat o) s = fv_bi (zX3_exp N (fv_sa s 21 (Int32.ofNat o) 5)) (fun r σ7 => fv_bv (zX3_value (Int32.ofNat o) (if (false : Bool) = true then -r else r) σ7) (fun σ4 => zX3_operand_114 N σ4) fv_no) fv_th := by
      unfold zX3_operand_98
      rw [if_pos i1]; rfl
    have eg : qOg B n sec L org (6, 0, false, p, (qEX B n p).2) = if sec = true then ((qEX B n p).1 (qen L org)).1 else none := by
      unfold qOg
      by_cases hs : sec = true
      · rw [if_pos ⟨hs, by show 4 ≤ 6; omega⟩, if_pos hs]
      · rw [if_neg (fun e => hs e.1), if_neg hs]
    rw [ez, eg]
    refine ⟨fun f hf => xTh_t (xFp_t fp1 fp2) (n2.trans n1) (A f hf), fun p' hp' => ?_⟩
    obtain ⟨σ2, y1, y2, y3, y4, y5, a21, a22, a23, a26, a24, a25⟩ := C p' hp'
    rw [y1]
    unfold zX3_operand_114
    have e552 : fv_gi σ2 1555 = Int32.ofNat o := y4.trans ((fs.1 1555 (by omega)).trans e55)
    rw [e552, p_sucN]
    refine ⟨_, rfl, y2.trans (n2.trans n1), ?_, rfl, ⟨?_, xAt_c y5.2.1 (fun k h1 h2 => if_neg (by omega)), xR_c y5.2.2.1 rfl rfl, y5.2.2.2⟩, ?_, fun _ h4 => by omega, a23, fun _ => ⟨a26, a24, a25⟩⟩
    · have := xFp_t (xFp_t fp1 fp2) y3
      exact ⟨fun k h1 h2 h3 h4 h5 h6 h7 => (if_neg h1).trans (this.1 k h1 h2 h3 h4 h5 h6 h7), this.2.1, this.2.2.1, this.2.2.2⟩
    · obtain ⟨z1, z2, z3, z4, z5, z6, z7, z8, z9⟩ := y5.1
      exact ⟨⟨z1.1, z1.2⟩, ⟨z2.1, z2.2⟩, z3, z4, z5, z6, z7, z8, xIf_c I σ2 _ (fun _ _ => ⟨rfl, rfl, rfl⟩) z9⟩
    · show fv_gw σ2 21 o = _
      rw [a21]; exact rd _ _ _
  -- no ( ) as a whole
  have e58 : ∀ s : fv_S, qGx σ1 s → qXt n (qT B n p) s → ¬ ((qT B n p).1 = 40 ∧ qWo B n p = true) →
      (∀ f, (qOp B n p).2.2.2.2 = .inl f → xTh o (qoe G (qOg B n sec L org (qOp B n p))) f σ (zX3_operand_58 N (Int32.ofNat o) (qxi (qrt B (qT B n p)) 99) s)) ∧ (∀ p', (qOp B n p).2.2.2.2 = .inr p' → ∃ σ', zX3_operand_58 N (Int32.ofNat o) (qxi (qrt B (qT B n p)) 99) s = fv_rv σ' ∧ fv_n σ' = fv_n σ ∧ xFp o σ σ' ∧ fv_gi σ' 1555 = Int32.ofNat (o + 1) ∧ xP B n sec L h I org (qoe G (qOg B n sec L org (qOp B n p))) p' σ' ∧ xOd B n sec L org o (qOp B n p).1 (qOp B n p).2.1 (qOp B n p).2.2.1 (qOp B n p).2.2.2.1 σ') := by
    intro s fs ks h1
    have as := xAt_of hp ks
    have Ps := xP_g P1 fs as (Nat.le_refl _)
    unfold zX3_operand_58
    by_cases c75 : 75 ≤ qrt B (qT B n p) ∧ qrt B (qT B n p) < 99
    · have t1 := qrt_lt rfl c75.2
      have hlt := hb.2.2.2.1 (by omega) (by omega)
      have hle := hb.1
      have exj : qxi (qrt B (qT B n p)) 99 = Int32.ofNat (qrt B (qT B n p)) := if_pos c75.2
      rw [exj, if_neg (show ¬ Int32.ofNat (qrt B (qT B n p)) < 75 from fun e => by have := (p_ltN _ 75 (by omega) (by omega)).1 e; omega), x_aln (B := B) (N := N) hS hN hb Ps.1.1 ks (by omega) (by omega), fv_bi_ri]
      by_cases ca : (qT B n (qT B n p).2.2.1).1 = 0 ∨ (qT B n (qT B n p).2.2.1).1 = 44
      · have eb : ((qT B n (qT B n p).2.2.1).1 == 0 || (qT B n (qT B n p).2.2.1).1 == 44) = true := by
          rcases ca with e | e <;> rw [e] <;> rfl
        rw [eb, if_neg (show ¬ q01 true = 0 by decide), if_pos i1, if_pos i1]
        rw [(qOp_3 h1).1 ⟨c75.1, c75.2, ca⟩]
        have P2 := xP_a ho (xP_a ho Ps 21 1 (by omega)) 22 (Int32.ofNat (qrt B (qT B n p))) (by omega)
        have k2 : qXt n (qT B n p) (fv_sa (fv_sa s 21 (Int32.ofNat o) 1) 22 (Int32.ofNat o) (Int32.ofNat (qrt B (qT B n p)))) := ks
        obtain ⟨σ3, x3, f3, a3, _⟩ := x_pass (B := B) hb k2 (by omega) (by omega)
        have P3 := xP_g P2 f3 a3 (by omega)
        have gw3 : ∀ a i, fv_gw σ3 a i = fv_gw (fv_sa (fv_sa s 21 (Int32.ofNat o) 1) 22 (Int32.ofNat o) (Int32.ofNat (qrt B (qT B n p)))) a i := fun a i => by show σ3.2.2.1 a i = _; rw [f3.2]
        have gws : ∀ a i, fv_gw s a i = fv_gw σ1 a i := fun a i => by show s.2.2.1 a i = _; rw [fs.2]
        have H : xOo B n sec L h I org o G (1, qrt B (qT B n p), false, 0, .inr (qT B n p).2.2.1) σ1 (fv_rv σ3) := by
          refine xOo_k (by omega) ⟨σ3, rfl, (qGx_n f3).trans (show fv_n s = fv_n σ1 from qGx_n fs), xFp_t (xFp_sa ho (xFp_sa ho (xFp_g fs) 21 1 (by omega)) 22 _ (by omega)) (xFp_g f3), (f3.1 1555 (by omega)).trans (fs.1 1555 (by omega)), P3, ?_, fun _ _ => ?_, ?_, fun h4 => by omega⟩
          · rw [gw3, s_an _ _ _ _ _ (by omega)]; exact rd _ _ _
          · rw [gw3]; exact rd _ _ _
          · rw [gw3, s_an _ _ _ _ _ (by omega), s_an _ _ _ _ _ (by omega), gws, h23, decide_eq_false (by omega)]; rfl
        have := fin _ _ H
        rw [fv_bv_rv] at this
        rw [x3, fv_bv_rv]
        exact this
      · have eb : ((qT B n (qT B n p).2.2.1).1 == 0 || (qT B n (qT B n p).2.2.1).1 == 44) = false := by simp; omega
        rw [eb, if_pos (show q01 false = 0 by decide)]
        exact e98 s fs as h1 (fun e => ca e.2.2)
    · have neg : qxi (qrt B (qT B n p)) 99 < 75 := by
        unfold qxi
        by_cases c : qrt B (qT B n p) < 99
        · rw [if_pos c]; exact (p_ltN _ 75 (by omega) (by omega)).2 (by omega)
        · rw [if_neg c]; decide
      rw [if_pos neg]
      exact e98 s fs as h1 (fun e => c75 ⟨e.1, e.2.1⟩)
  unfold zX3_operand_33
  by_cases c40 : (qT B n p).1 = 40
  · obtain ⟨σ2, x2, f2, k2⟩ := x_who (N := N) hS hN P1.1.1 hp k1 c40
    rw [if_neg (show ¬ ¬ qxk n (qT B n p) = 40 from not_not_intro ((qxk_ne hb 40 (by omega) (by omega) (by omega)).2 c40)), x2, fv_bi_ri]
    cases hw : qWo B n p with
    | false => rw [if_pos (show q01 false = 0 by decide)]; exact e58 σ2 f2 k2 (fun e => by rw [hw] at e; exact absurd e.2 (by decide))
    | true =>
      rw [if_neg (show ¬ q01 true = 0 by decide)]
      have P2 := xP_g P1 f2 (xAt_of hp k2) (Nat.le_refl _)
      have H := x_plc (N := N) hS hN P2 k2 ho (by show σ2.2.2.1 23 o = _; rw [f2.2]; exact h23) c40 hw
      exact fin _ _ (xOo_t (xFp_g f2) (qGx_n f2) (f2.1 1555 (by omega)) H)
  · rw [if_pos (show ¬ qxk n (qT B n p) = 40 from fun e => c40 ((qxk_ne hb 40 (by omega) (by omega) (by omega)).1 e))]
    exact e58 σ1 (qGx_r σ1) k1 (fun e => c40 e.1)
/-- operands: how many, what is told, the outcome -/
noncomputable def qOs (B : Nat → Nat) (n : Nat) (sec : Bool) (L : List (List Nat × Int32)) (org p : Nat) : Nat × Option (Nat × Nat) × qOu :=
  if (qT B n p).1 = 0 then (0, none, .inr p) else match (qOp B n p).2.2.2.2 with
    | .inl f => (1, qOg B n sec L org (qOp B n p), .inl f)
    | .inr p1 => if (qT B n p1).1 = 44 then (2, qoe (qOg B n sec L org (qOp B n p)) (qOg B n sec L org (qOp B n (qT B n p1).2.2.1)), (qOp B n (qT B n p1).2.2.1).2.2.2.2) else (1, qOg B n sec L org (qOp B n p), .inr p1)
/-- the second operand -/
noncomputable def qO2 (B : Nat → Nat) (n p : Nat) : Nat × Nat × Bool × Nat × qOu := match (qOp B n p).2.2.2.2 with
  | .inl _ => (0, 0, false, 0, .inr 0)
  | .inr p1 => qOp B n (qT B n p1).2.2.1
