set_option maxRecDepth 100000
set_option maxHeartbeats 4000000
/-! The plain law: all operands of an instruction are read. -/
theorem qOs_0 {B : Nat → Nat} {n : Nat} {sec : Bool} {L : List (List Nat × Int32)} {org p : Nat} (h : (qT B n p).1 = 0) : qOs B n sec L org p = (0, none, .inr p) := by unfold qOs; rw [if_pos h]
theorem qOs_i {B : Nat → Nat} {n : Nat} {sec : Bool} {L : List (List Nat × Int32)} {org p : Nat} {f : Nat × Nat} (h : ¬ (qT B n p).1 = 0) (ho : (qOp B n p).2.2.2.2 = .inl f) : qOs B n sec L org p = (1, qOg B n sec L org (qOp B n p), .inl f) := by unfold qOs; rw [if_neg h, ho]
theorem qOs_c {B : Nat → Nat} {n : Nat} {sec : Bool} {L : List (List Nat × Int32)} {org p p1 : Nat} (h : ¬ (qT B n p).1 = 0) (ho : (qOp B n p).2.2.2.2 = .inr p1) (c : (qT B n p1).1 = 44) : qOs B n sec L org p = (2, qoe (qOg B n sec L org (qOp B n p)) (qOg B n sec L org (qOp B n (qT B n p1).2.2.1)), (qOp B n (qT B n p1).2.2.1).2.2.2.2) := by unfold qOs; rw [if_neg h, ho]; exact if_pos c
theorem qOs_e {B : Nat → Nat} {n : Nat} {sec : Bool} {L : List (List Nat × Int32)} {org p p1 : Nat} (h : ¬ (qT B n p).1 = 0) (ho : (qOp B n p).2.2.2.2 = .inr p1) (c : ¬ (qT B n p1).1 = 44) : qOs B n sec L org p = (1, qOg B n sec L org (qOp B n p), .inr p1) := by unfold qOs; rw [if_neg h, ho]; exact if_neg c
theorem qO2_e {B : Nat → Nat} {n p p1 : Nat} (ho : (qOp B n p).2.2.2.2 = .inr p1) : qO2 B n p = qOp B n (qT B n p1).2.2.1 := by unfold qO2; rw [ho]
/-- the class holds the operands -/
def xOs (B : Nat → Nat) (n : Nat) (sec : Bool) (L : List (List Nat × Int32)) (org p m : Nat) (σ : fv_S) : Prop := (m = 0 → fv_gw σ 21 0 = 0) ∧ (1 ≤ m → xOd B n sec L org 0 (qOp B n p).1 (qOp B n p).2.1 (qOp B n p).2.2.1 (qOp B n p).2.2.2.1 σ) ∧ (m ≤ 1 → fv_gw σ 21 1 = 0) ∧ (2 ≤ m → xOd B n sec L org 1 (qO2 B n p).1 (qO2 B n p).2.1 (qO2 B n p).2.2.1 (qO2 B n p).2.2.2.1 σ)
theorem xOd_c {B : Nat → Nat} {n : Nat} {sec : Bool} {L : List (List Nat × Int32)} {org o c j : Nat} {neg : Bool} {pe : Nat} {σ σ' : fv_S} (h : xOd B n sec L org o c j neg pe σ) (g : ∀ a, 21 ≤ a → a ≤ 26 → fv_gw σ' a o = fv_gw σ a o) : xOd B n sec L org o c j neg pe σ' := by
  unfold xOd
  rw [g 21 (by omega) (by omega), g 22 (by omega) (by omega), g 23 (by omega) (by omega), g 24 (by omega) (by omega), g 25 (by omega) (by omega), g 26 (by omega) (by omega)]; exact h
theorem x_ros {B : Nat → Nat} {n N p : Nat} (hS : qS B n) (hN : 7000 ≤ N) {sec : Bool} {L : List (List Nat × Int32)} {h : Nat} {I : List (Bool × Bool)} {org : Nat} {σ : fv_S} (P : xP B n sec L h I org none p σ) :
    (∀ f, (qOs B n sec L org p).2.2 = .inl f → ∃ σ', zX3_readOperands N σ = fv_th (Int32.ofNat f.1) (Int32.ofNat f.2) σ' ∧ fv_n σ' = fv_n σ + 1 ∧ xFo σ σ' ∧ (1 ≤ f.1 ∧ f.1 ≤ 9 ∧ f.2 ≤ 6000) ∧ xR (qOs B n sec L org p).2.1 σ' ∧ (∀ g, (qOs B n sec L org p).2.1 = some g → g.2 < f.2)) ∧
    (∀ p', (qOs B n sec L org p).2.2 = .inr p' → ∃ σ', zX3_readOperands N σ = fv_rv σ' ∧ xFw σ σ' ∧ xMs σ σ' ∧ xP B n sec L h I org (qOs B n sec L org p).2.1 p' σ' ∧ xOs B n sec L org p (qOs B n sec L org p).1 σ') := by
  have hn := hS.1
  have hp := P.2.1.1
  have hb := qT_b hS p hp
  unfold zX3_readOperands
  generalize hs : fv_sa (fv_sa (fv_si σ 1555 0) 21 0 0) 21 1 0 = σ1
  have gi : ∀ k, k ≠ 1555 → fv_gi σ1 k = fv_gi σ k := fun k hk => by rw [← hs]; exact if_neg hk
  have gw : ∀ a, a ≠ 21 → fv_gw σ1 a = fv_gw σ a := fun a ha => by rw [← hs, s_an _ _ _ _ _ ha, s_an _ _ _ _ _ ha]; rfl
  have g55 : fv_gi σ1 1555 = Int32.ofNat 0 := by rw [← hs]; rfl
  have a0 : fv_gw σ1 21 0 = 0 := by rw [← hs, s_ai _ _ _ _ _ (by decide)]; exact s_ak _ _ _ _
  have a1 : fv_gw σ1 21 1 = 0 := by rw [← hs]; exact s_ak _ _ _ _
  have l2 : σ1.2.1 = σ.2.1 := by rw [← hs]; rfl
  have n1 : fv_n σ1 = fv_n σ := by rw [← hs]; rfl
  clear hs
  have fw1 : xFw σ σ1 := ⟨⟨fun k h1 h2 h3 => gi k (by omega), ⟨l2, xB17_e (gw 17 (by omega))⟩, fun a ha => gw a (by omega)⟩, n1, gi 1548 (by omega)⟩
  have ms1 : xMs σ σ1 := ⟨gw 20 (by omega), gi _ (by omega), gi _ (by omega), gi _ (by omega)⟩
  have P1 : xP B n sec L h I org none p σ1 := by
    refine ⟨?_, xAt_c P.2.1 (fun k h1 h2 => gi k (by omega)), xR_c P.2.2.1 (gi _ (by omega)) (gi _ (by omega)), P.2.2.2⟩
    obtain ⟨z1, z2, z3, z4, z5, z6, z7, z8, z9⟩ := P.1
    exact ⟨⟨(gi 1665 (by omega)).trans z1.1, by rw [gw 14 (by omega), gw 15 (by omega)]; exact z1.2⟩, ⟨(gi 2051 (by omega)).trans z2.1, z2.2.1, by rw [gw 17 (by omega), gw 18 (by omega), gw 19 (by omega)]; exact z2.2.2⟩, (gi _ (by omega)).trans z3, xQ4_c z4 (gi _ (by omega)) (fun _ => ⟨gi _ (by omega), gi _ (by omega)⟩), (gi _ (by omega)).trans z5, (gi _ (by omega)).trans z6, (gi _ (by omega)).trans z7, (gi _ (by omega)).trans z8, xIf_c I σ σ1 (fun i _ => by rw [gw 27 (by omega), gw 28 (by omega), gw 29 (by omega)]; exact ⟨rfl, rfl, rfl⟩) z9⟩
  obtain ⟨σ2, x2, f2, k2⟩ := x_end (N := N) hS hN P1.1.1 P1.2.1
  have P2 := xP_g P1 f2 (xAt_of hp k2) (Nat.le_refl _)
  have gw2 : ∀ a i, fv_gw σ2 a i = fv_gw σ1 a i := fun a i => by show σ2.2.2.1 a i = _; rw [f2.2]
  have fw2 := xFw_t fw1 (xFw_g f2)
  have ms2 := xMs_t ms1 (xMs_g f2)
  have g55' : fv_gi σ2 1555 = Int32.ofNat 0 := (f2.1 1555 (by omega)).trans g55
  rw [x2, fv_bi_ri]
  have en : ∀ r : Option (Nat × Nat), qoe none r = r := fun _ => rfl
  have fwp : ∀ {o : Nat} {a b : fv_S}, xFp o a b → fv_n b = fv_n a → xFw a b := fun f hn => ⟨xFo_p f, hn, f.1 1548 (by omega) (by omega) (by omega) (by omega) (by omega) (by omega) (by omega)⟩
  by_cases c0 : (qT B n p).1 = 0
  · rw [qOs_0 c0, c0, if_neg (show ¬ q01 ((0 : Nat) == 0) = 0 by decide)]
    refine ⟨fun f hf => absurd hf (by simp), fun p' hp' => ?_⟩
    have := Sum.inr.inj hp'
    subst this
    exact ⟨σ2, rfl, fw2, ms2, P2, fun _ => (gw2 21 0).trans a0, fun h1 => by omega, fun _ => (gw2 21 1).trans a1, fun h1 => by omega⟩
  · rw [show ((qT B n p).1 == 0) = false by simp [c0], if_pos (show q01 false = 0 by decide)]
    obtain ⟨A, C⟩ := x_opd (N := N) hS hN P2 (o := 0) (by omega) g55'
    rw [en] at A C
    cases ho : (qOp B n p).2.2.2.2 with
    | inl f =>
      rw [qOs_i c0 ho]
      refine ⟨fun f' hf' => ?_, fun p' hp' => absurd hp' (by simp)⟩
      have := Sum.inl.inj hf'
      subst this
      obtain ⟨σ3, y1, y2, y3, y4, y5, y6⟩ := A f ho
      rw [y1, fv_bv_th]
      exact ⟨σ3, rfl, y2.trans (by rw [fw2.2.1]), xFo_t fw2.1 (xFo_p y3), y4, y5, y6⟩
    | inr p1 =>
      obtain ⟨σ3, x3, n3, f3, g3, P3, O3⟩ := C p1 ho
      have fw3 := xFw_t fw2 (fwp f3 n3)
      have ms3 := xMs_t ms2 (xMs_p f3)
      have hp1 := P3.2.1.1
      have hb1 := qT_b hS p1 hp1
      obtain ⟨σ4, x4, f4, k4⟩ := x_look (N := N) hS hN P3.1.1 P3.2.1
      have P4 := xP_g P3 f4 (xAt_of hp1 k4) (Nat.le_refl _)
      have gw4 : ∀ a i, fv_gw σ4 a i = fv_gw σ3 a i := fun a i => by show σ4.2.2.1 a i = _; rw [f4.2]
      have fw4 := xFw_t fw3 (xFw_g f4)
      have ms4 := xMs_t ms3 (xMs_g f4)
      have b1 : fv_gw σ4 21 1 = 0 := by rw [gw4, f3.2.2.2 21 1 (by omega), gw2, a1]
      rw [x3, fv_bv_rv, x4, fv_bi_ri]
      by_cases c44 : (qT B n p1).1 = 44
      · rw [qOs_c c0 ho c44, if_pos (show qxk n (qT B n p1) = 44 from (qxk_ne hb1 44 (by omega) (by omega) (by omega)).2 c44)]
        obtain ⟨σ5, x5, f5, a5, _⟩ := x_pass (B := B) hb1 k4 (by omega) (by omega)
        have P5 := xP_g P4 f5 a5 (by have := hb1.1; have := hb1.2.2.2.1 (by omega) (by omega); omega)
        have gw5 : ∀ a i, fv_gw σ5 a i = fv_gw σ3 a i := fun a i => (show fv_gw σ5 a i = fv_gw σ4 a i by show σ5.2.2.1 a i = _; rw [f5.2]).trans (gw4 a i)
        have fw5 := xFw_t fw4 (xFw_g f5)
        have ms5 := xMs_t ms4 (xMs_g f5)
        have g55'' : fv_gi σ5 1555 = Int32.ofNat 1 := (f5.1 1555 (by omega)).trans ((f4.1 1555 (by omega)).trans g3)
        rw [x5, fv_bv_rv]
        obtain ⟨A2, C2⟩ := x_opd (N := N) hS hN P5 (o := 1) (by omega) g55''
        refine ⟨fun f hf => ?_, fun p' hp' => ?_⟩
        · obtain ⟨σ6, y1, y2, y3, y4, y5, y6⟩ := A2 f hf
          rw [y1, fv_bv_th]
          exact ⟨σ6, rfl, y2.trans (by rw [fw5.2.1]), xFo_t fw5.1 (xFo_p y3), y4, y5, y6⟩
        · obtain ⟨σ6, x6, n6, f6, g6, P6, O6⟩ := C2 p' hp'
          rw [x6, fv_bv_rv]
          refine ⟨σ6, rfl, xFw_t fw5 (fwp f6 n6), xMs_t ms5 (xMs_p f6), P6, fun e => absurd e (show ¬ (2 : Nat) = 0 by omega), fun _ => ?_, fun e => absurd e (show ¬ (2 : Nat) ≤ 1 by omega), fun _ => ?_⟩
          · exact xOd_c O3 (fun a _ _ => (f6.2.2.2 a 0 (by omega)).trans (gw5 a 0))
          · rw [qO2_e ho]; exact O6
      · rw [qOs_e c0 ho c44, if_neg (show ¬ qxk n (qT B n p1) = 44 from fun e => c44 ((qxk_ne hb1 44 (by omega) (by omega) (by omega)).1 e))]
        refine ⟨fun f hf => absurd hf (by simp), fun p' hp' => ?_⟩
        have := Sum.inr.inj hp'
        subst this
        exact ⟨σ4, rfl, fw4, ms4, P4, fun e => absurd e (show ¬ (1 : Nat) = 0 by omega), fun _ => xOd_c O3 (fun a _ _ => gw4 a 0), fun _ => b1, fun e => absurd e (show ¬ 2 ≤ (1 : Nat) by omega)⟩
theorem mOd_c {B : Nat → Nat} {n o c j : Nat} {neg : Bool} {pe : Nat} {τ τ' : fv_S} (h : mOd B n o c j neg pe τ) (g : ∀ a, 8 ≤ a → a ≤ 12 → fv_gw τ' a o = fv_gw τ a o) : mOd B n o c j neg pe τ' := by
  unfold mOd
  rw [g 8 (by omega) (by omega), g 9 (by omega) (by omega), g 10 (by omega) (by omega), g 11 (by omega) (by omega), g 12 (by omega) (by omega)]; exact h
theorem m_ros {B : Nat → Nat} {n N p : Nat} (hS : qS B n) (hN : 7000 ≤ N) {sec : Bool} {L : List (List Nat × Int32)} {h : Nat} {I : List (Bool × Bool)} {org : Nat} {τ : fv_S} (z : mZ B n sec L h I org τ) (k : qMt B (qT B n p) τ) (hp : p ≤ n) :
    (∀ f, (qOs B n sec L org p).2.2 = .inl f → mFx f τ (zX8_readOperands N τ)) ∧ (∀ p', (qOs B n sec L org p).2.2 = .inr p' → ((qT B n p').1 ≠ 0 → mFx (qwr (qT B n p'), (qT B n p').2.1) τ (zX8_readOperands N τ)) ∧ ((qT B n p').1 = 0 → ∃ τ', zX8_readOperands N τ = fv_ri 1 τ' ∧ mFo τ τ' ∧ mMs τ τ' ∧ mZ B n sec L h I org τ' ∧ qMt B (qT B n p') τ' ∧ p' ≤ n ∧ fv_gi τ' 28 = Int32.ofNat (qOs B n sec L org p).1 ∧ (1 ≤ (qOs B n sec L org p).1 → mOd B n 0 (qOp B n p).1 (qOp B n p).2.1 (qOp B n p).2.2.1 (qOp B n p).2.2.2.1 τ') ∧ (2 ≤ (qOs B n sec L org p).1 → mOd B n 1 (qO2 B n p).1 (qO2 B n p).2.1 (qO2 B n p).2.2.1 (qO2 B n p).2.2.2.1 τ'))) := by
  have hn := hS.1
  have hb := qT_b hS p hp
  have f0 : mFo τ (fv_si τ 28 0) := mFo_si (mFo_r τ) 28 0 (by omega)
  have z0 : mZ B n sec L h I org (fv_si τ 28 0) := by
    obtain ⟨z1, z2, z3, z4, z5, z6, z7, z8⟩ := z
    exact ⟨⟨z1.1, z1.2⟩, ⟨z2.1, z2.2⟩, z3, z4, z5, z6, z7, mIf_c I τ _ (fun _ _ => ⟨rfl, rfl⟩) z8⟩
  have k0 : qMt B (qT B n p) (fv_si τ 28 0) := ⟨⟨k.1.1, k.1.2.1, k.1.2.2.1, k.1.2.2.2.1, k.1.2.2.2.2.1, k.1.2.2.2.2.2⟩, k.2⟩
  have m0 : mMs τ (fv_si τ 28 0) := ⟨rfl, rfl, rfl⟩
  have h28 : fv_gi (fv_si τ 28 0) 28 = Int32.ofNat 0 := rfl
  have e1 := (m_k k.1 1 (by omega)).trans (qmk_e (qT B n p).1).2.1
  unfold zX8_readOperands
  generalize fv_si τ 28 0 = s0 at f0 z0 k0 m0 h28 ⊢
  by_cases c0 : (qT B n p).1 = 0
  · rw [qOs_0 c0, if_neg (show ¬ ¬ fv_gi τ 3 = 1 from not_not_intro (e1.2 c0))]
    refine ⟨fun f hf => absurd hf (by simp), fun p' hp' => ?_⟩
    have := Sum.inr.inj hp'
    subst this
    exact ⟨fun h => absurd c0 h, fun _ => ⟨s0, rfl, f0, m0, z0, k0, hp, h28, fun e => absurd e (show ¬ 1 ≤ (0 : Nat) by omega), fun e => absurd e (show ¬ 2 ≤ (0 : Nat) by omega)⟩⟩
  · rw [if_pos (show ¬ fv_gi τ 3 = 1 from fun e => c0 (e1.1 e))]
    obtain ⟨N1, hN1⟩ : ∃ j, N = j + 1 := ⟨N - 1, by omega⟩
    obtain ⟨N2, hN2⟩ : ∃ j, N1 = j + 1 := ⟨N1 - 1, by omega⟩
    have st : zX8_readOperands_15 N N s0 = zX8_readOperands_15_b N (zX8_readOperands_15 N N1) s0 := by
      conv => lhs; rw [show zX8_readOperands_15 N N = zX8_readOperands_15 N (N1 + 1) by rw [← hN1]]
      rfl
    rw [st]
    unfold zX8_readOperands_15_b
    obtain ⟨A, C⟩ := m_opd (N := N) hS hN (o := 0) (by omega) z0 k0 hp h28
    cases ho : (qOp B n p).2.2.2.2 with
    | inl f =>
      rw [qOs_i c0 ho]
      refine ⟨fun f' hf' => ?_, fun p' hp' => absurd hp' (by simp)⟩
      have := Sum.inl.inj hf'
      subst this
      exact mFx_t f0 (mFx_n (A f ho) _)
    | inr p1 =>
      rcases C p1 ho with ⟨τ1, x1, f1, g1, z1, k1, hp1, O1⟩ | ⟨y1, y2, y3⟩
      · have hb1 := qT_b hS p1 hp1
        have e11 := (m_k k1.1 1 (by omega)).trans (qmk_e (qT B n p1).1).2.1
        have fo1 := mFo_t f0 (mFo_p f1)
        have ms1 := mMs_t m0 (mMs_p f1)
        rw [x1, fv_bi_ri, if_pos (show ¬ (1 : Int32) = 0 by decide)]
        have sg1 : zX8_isSign 44 τ1 = _ := m_sgn hb1 k1.1 44 rfl
        by_cases c44 : (qT B n p1).1 = 44
        · rw [qOs_c c0 ho c44, if_pos (show ¬ fv_gi τ1 3 = 1 from fun e => by have := e11.1 e; omega), sg1, fv_bi_ri, show ((qT B n p1).1 == 44) = true by simp [c44], if_neg (show ¬ q01 true = 0 by decide), g1, if_pos (show ¬ Int32.ofNat (0 + 1) = 2 by decide)]
          obtain ⟨τ2, x2, f2, k2⟩ := m_go (N := N) hS hN hp1 z1.1 k1
          have hp2 := hb1.2.2.1
          have z2 := mZ_q z1 f2
          have fo2 := mFo_t fo1 (mFo_q f2)
          have ms2 := mMs_t ms1 (mMs_e (mFe_q f2))
          have g2 : fv_gi τ2 28 = Int32.ofNat 1 := (f2.1 28 (by omega)).trans g1
          have gw2 : ∀ a i, fv_gw τ2 a i = fv_gw τ1 a i := fun a i => by show τ2.2.2.1 a i = _; rw [f2.2.1]
          rw [x2, fv_bv_rv, hN2]
          show (∀ f, _ → mFx f τ (zX8_readOperands_15_b N (zX8_readOperands_15 N N2) τ2)) ∧ _
          unfold zX8_readOperands_15_b
          obtain ⟨A2, C2⟩ := m_opd (N := N) hS hN (o := 1) (by omega) z2 k2 hp2 g2
          refine ⟨fun f hf => mFx_t fo2 (mFx_n (A2 f hf) _), fun p' hp' => ?_⟩
          have C2 := C2 p' hp'
          show ((qT B n p').1 ≠ 0 → mFx (qwr (qT B n p'), (qT B n p').2.1) τ (zX8_readOperands_15_b N (zX8_readOperands_15 N N2) τ2)) ∧ ((qT B n p').1 = 0 → ∃ τ', zX8_readOperands_15_b N (zX8_readOperands_15 N N2) τ2 = fv_ri 1 τ' ∧ _)
          unfold zX8_readOperands_15_b
          rcases C2 with ⟨τ3, x3, f3, g3, z3, k3, hp3, O3⟩ | ⟨y1, y2, y3⟩
          · have e13 := (m_k k3.1 1 (by omega)).trans (qmk_e (qT B n p').1).2.1
            have fo3 := mFo_t fo2 (mFo_p f3)
            have ms3 := mMs_t ms2 (mMs_p f3)
            rw [x3, fv_bi_ri, if_pos (show ¬ (1 : Int32) = 0 by decide)]
            refine ⟨fun c => ?_, fun c => ?_⟩
            · rw [if_pos (show ¬ fv_gi τ3 3 = 1 from fun e => c (e13.1 e)), show zX8_isSign 44 τ3 = _ from m_sgn (qT_b hS p' hp3) k3.1 44 rfl, fv_bi_ri]
              have rf : mFx (qwr (qT B n p'), (qT B n p').2.1) τ (zX8_readOperands_51 N τ3) := by
                unfold zX8_readOperands_51
                exact mFx_t fo3 (mFx_b (mFx_f (mFt_rf z3.2.2.2.2.2.1 k3.1)))
              cases ((qT B n p').1 == 44) with
              | false => rw [if_pos (show q01 false = 0 by decide)]; exact rf
              | true => rw [if_neg (show ¬ q01 true = 0 by decide), g3, if_neg (show ¬ ¬ Int32.ofNat (1 + 1) = 2 by decide)]; exact rf
            · rw [if_neg (show ¬ ¬ fv_gi τ3 3 = 1 from not_not_intro (e13.2 c))]
              refine ⟨τ3, rfl, fo3, ms3, z3, k3, hp3, g3, fun _ => ?_, fun _ => ?_⟩
              · exact mOd_c O1 (fun a h1 h2 => (f3.2.2.2.1 a 0 h1 h2 (by omega)).trans (gw2 a 0))
              · rw [qO2_e ho]; exact O3
          · exact ⟨fun _ => mFx_t fo2 (mFx_n y3 _), fun c => absurd c y1⟩
        · rw [qOs_e c0 ho c44]
          refine ⟨fun f hf => absurd hf (by simp), fun p' hp' => ?_⟩
          have := Sum.inr.inj hp'
          subst this
          refine ⟨fun c => ?_, fun c => ?_⟩
          · rw [if_pos (show ¬ fv_gi τ1 3 = 1 from fun e => c (e11.1 e)), sg1, fv_bi_ri, show ((qT B n p1).1 == 44) = false by simp [c44], if_pos (show q01 false = 0 by decide)]
            unfold zX8_readOperands_51
            exact mFx_t fo1 (mFx_b (mFx_f (mFt_rf z1.2.2.2.2.2.1 k1.1)))
          · rw [if_neg (show ¬ ¬ fv_gi τ1 3 = 1 from not_not_intro (e11.2 c))]
            exact ⟨τ1, rfl, fo1, ms1, z1, k1, hp1, g1, fun _ => O1, fun e => absurd e (show ¬ 2 ≤ (1 : Nat) by omega)⟩
      · rw [qOs_e c0 ho y2]
        refine ⟨fun f hf => absurd hf (by simp), fun p' hp' => ?_⟩
        have := Sum.inr.inj hp'
        subst this
        exact ⟨fun _ => mFx_t f0 (mFx_n y3 _), fun c => absurd c y1⟩
