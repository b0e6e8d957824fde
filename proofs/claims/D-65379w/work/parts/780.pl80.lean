set_option maxRecDepth 100000
set_option maxHeartbeats 4000000
/-! The plain law: the model reads an operand, all of it. -/
noncomputable def zOe (N : Nat) (τ : fv_S) : Option fv_O := fv_bi (zX8_expression N 0 τ) (fun r15 σ14 => if ¬ r15 = 0 then fv_bi (zX8_isSign 41 σ14) (fun r17 σ16 => if ¬ r17 = 0 then fv_bv (zX8_next N σ16) (fun σ18 => fv_bi (zX8_endsOperand σ18) (fun r20 σ19 => if ¬ r20 = 0 then fv_ri 1 σ19 else fv_bi (zX8_refuse σ19) (fun r22 σ21 => if r22 = 0 then fv_ri 0 σ21 else fv_ri 1 σ21) fv_no) fv_no) fv_no else fv_bi (zX8_refuse σ16) (fun r24 σ23 => if r24 = 0 ∨ r24 = 1 then fv_ri r24 σ23 else none) fv_no) fv_no else fv_ri 0 σ14) fv_no
theorem m_oew {B : Nat → Nat} {n N p : Nat} (hS : qS B n) (hN : 7000 ≤ N) {sec : Bool} {L : List (List Nat × Int32)} {h : Nat} {I : List (Bool × Bool)} {org : Nat} {τ : fv_S} (z : mZ B n sec L h I org τ) (k : qMt B (qT B n p) τ) (hp : p ≤ n) :
    (∀ f, qcl B n (qEX B n p).2 = .inl f → mFx f τ (zOe N τ)) ∧ (∀ p', qcl B n (qEX B n p).2 = .inr p' → (∃ τ', zOe N τ = fv_ri 1 τ' ∧ mFe τ τ' ∧ mZ B n sec L h I org τ' ∧ qMt B (qT B n p') τ' ∧ p' ≤ n) ∨ ((qT B n p').1 ≠ 0 ∧ (qT B n p').1 ≠ 44 ∧ mFx (qwr (qT B n p'), (qT B n p').2.1) τ (zOe N τ))) := by
  obtain ⟨A, C, D⟩ := m_ek (N := N) hS hN z hp k false
  unfold zOe qcl
  cases ho : (qEX B n p).2 with
  | inl f =>
    refine ⟨fun f' hf' => ?_, fun p' hp' => absurd hp' (by simp)⟩
    have := Sum.inl.inj hf'
    subst this
    exact mFx_n (C rfl f ho) _
  | inr p1 =>
    obtain ⟨τ1, x1, f1, k1, z1, hp1, _⟩ := D rfl p1 ho
    have hb1 := qT_b hS p1 hp1
    rw [show zX8_expression N 0 τ = _ from x1, fv_bi_ri, if_pos (show ¬ (1 : Int32) = 0 by decide), show zX8_isSign 41 τ1 = _ from m_sgn hb1 k1.1 41 rfl, fv_bi_ri]
    show (∀ f, (if (qT B n p1).1 = 41 then _ else _ : qOu) = .inl f → _) ∧ (∀ p', (if (qT B n p1).1 = 41 then _ else _ : qOu) = .inr p' → _)
    by_cases c : (qT B n p1).1 = 41
    · rw [if_pos c, show ((qT B n p1).1 == 41) = true by simp [c], if_pos (show ¬ q01 true = 0 by decide)]
      refine ⟨fun f hf => absurd hf (by simp), fun p' hp' => ?_⟩
      have := Sum.inr.inj hp'
      subst this
      obtain ⟨τ2, x2, f2, k2⟩ := m_go (N := N) hS hN hp1 z1.1 k1
      have hp2 := hb1.2.2.1
      have z2 := mZ_q z1 f2
      have fe := mFe_t f1 (mFe_q f2)
      rw [x2, fv_bv_rv, m_ends (qT_b hS _ hp2) k2.1, fv_bi_ri]
      by_cases ce : (qT B n (qT B n p1).2.2.1).1 = 0 ∨ (qT B n (qT B n p1).2.2.1).1 = 44
      · have eb : ((qT B n (qT B n p1).2.2.1).1 == 0 || (qT B n (qT B n p1).2.2.1).1 == 44) = true := by
          rcases ce with e | e <;> rw [e] <;> rfl
        rw [eb, if_pos (show ¬ q01 true = 0 by decide)]
        exact Or.inl ⟨τ2, rfl, fe, z2, k2, hp2⟩
      · have eb : ((qT B n (qT B n p1).2.2.1).1 == 0 || (qT B n (qT B n p1).2.2.1).1 == 44) = false := by simp; omega
        rw [eb, if_neg (show ¬ ¬ q01 false = 0 by decide)]
        refine Or.inr ⟨by omega, by omega, mFx_t (mFo_e fe) ?_⟩
        obtain ⟨τ3, r1, r2⟩ := mFt_rf z2.2.2.2.2.2.1 k2.1
        rw [r1, fv_bi_ri, if_pos rfl]
        exact mFx_f ⟨τ3, rfl, r2⟩
    · rw [if_neg c, show ((qT B n p1).1 == 41) = false by simp [c], if_neg (show ¬ ¬ q01 false = 0 by decide)]
      refine ⟨fun f hf => ?_, fun p' hp' => absurd hp' (by simp)⟩
      have := Sum.inl.inj hf
      subst this
      exact mFx_t (mFo_e f1) (mFx_b (mFx_f (mFt_rf z1.2.2.2.2.2.1 k1.1)))
/-- an operand's outcome in the model -/
def mOo (B : Nat → Nat) (n : Nat) (sec : Bool) (L : List (List Nat × Int32)) (h : Nat) (I : List (Bool × Bool)) (org o : Nat) (d : Nat × Nat × Bool × Nat × qOu) (τ : fv_S) (out : Option fv_O) : Prop :=
  (∀ f, d.2.2.2.2 = .inl f → mFx f τ out) ∧ (∀ p', d.2.2.2.2 = .inr p' → (∃ τ', out = fv_ri 1 τ' ∧ mFq o τ τ' ∧ fv_gi τ' 28 = fv_gi τ 28 ∧ mZ B n sec L h I org τ' ∧ qMt B (qT B n p') τ' ∧ p' ≤ n ∧ mOd B n o d.1 d.2.1 d.2.2.1 d.2.2.2.1 τ') ∨ ((qT B n p').1 ≠ 0 ∧ (qT B n p').1 ≠ 44 ∧ mFx (qwr (qT B n p'), (qT B n p').2.1) τ out))
theorem mOo_t {B : Nat → Nat} {n : Nat} {sec : Bool} {L : List (List Nat × Int32)} {h : Nat} {I : List (Bool × Bool)} {org o : Nat} {d : Nat × Nat × Bool × Nat × qOu} {τ0 τ : fv_S} {out : Option fv_O} (f : mFq o τ0 τ) (h8 : fv_gi τ 28 = fv_gi τ0 28) (H : mOo B n sec L h I org o d τ out) : mOo B n sec L h I org o d τ0 out := by
  refine ⟨fun g hg => mFx_t (mFo_p f) (H.1 g hg), fun p' hp' => ?_⟩
  rcases H.2 p' hp' with ⟨τ', y1, y2, y3, y4⟩ | ⟨y1, y2, y3⟩
  · exact Or.inl ⟨τ', y1, mFq_t f y2, y3.trans h8, y4⟩
  · exact Or.inr ⟨y1, y2, mFx_t (mFo_p f) y3⟩
theorem mOo_v {B : Nat → Nat} {n N p : Nat} (hS : qS B n) (hN : 7000 ≤ N) {sec : Bool} {L : List (List Nat × Int32)} {h : Nat} {I : List (Bool × Bool)} {org o : Nat} {τ : fv_S} (z : mZ B n sec L h I org τ) (k : qMt B (qT B n p) τ) (hp : p ≤ n) (c j : Nat) (neg : Bool) (hO : mOd B n o c j neg p τ) : mOo B n sec L h I org o (c, j, neg, p, qcl B n (qEX B n p).2) τ (zOe N τ) := by
  obtain ⟨A, C⟩ := m_oew (N := N) hS hN z k hp
  refine ⟨A, fun p' hp' => ?_⟩
  rcases C p' hp' with ⟨τ', y1, y2, y3, y4, y5⟩ | H
  · have g : ∀ a, 8 ≤ a → fv_gw τ' a = fv_gw τ a := fun a ha => y2.2.2.1 a (by omega) (by omega) (by omega)
    refine Or.inl ⟨τ', y1, mFq_e y2, y2.1 28 (by omega) (by omega) (by omega) (by omega) (by omega) (by omega) (by omega), y3, y4, y5, ?_⟩
    show mOd B n o c j neg p τ'
    unfold mOd
    rw [g 8 (by omega), g 9 (by omega), g 12 (by omega), g 11 (by omega), g 10 (by omega)]; exact hO
  · exact Or.inr H
theorem qMt_a {B : Nat → Nat} {t : qTok} {τ : fv_S} (h : qMt B t τ) (k : Nat) (i v : Int32) : qMt B t (fv_sa τ k i v) := ⟨⟨h.1.1, h.1.2.1, h.1.2.2.1, h.1.2.2.2.1, h.1.2.2.2.2.1, h.1.2.2.2.2.2⟩, h.2⟩
theorem m_plo {B : Nat → Nat} {n N p : Nat} (hS : qS B n) (hN : 7000 ≤ N) {sec : Bool} {L : List (List Nat × Int32)} {h : Nat} {I : List (Bool × Bool)} {org o : Nat} (ho : o < 2) {τ : fv_S} (z : mZ B n sec L h I org τ) (k : qMt B (qT B n p) τ) (hp : p ≤ n) (h9 : fv_gw τ 9 o = 0) (h11 : fv_gw τ 11 o = 0) (h12 : fv_gw τ 12 o = 0) (h40 : (qT B n p).1 = 40) (hw : qWo B n p = true) : mOo B n sec L h I org o (qOp B n p) τ (zX8_readPlace N (Int32.ofNat o) τ) := by
  have hn := hS.1
  have hb := qT_b hS p hp
  obtain ⟨i1, i2⟩ := p_inN o 8 (by omega) (by omega)
  have rd : ∀ (s : fv_S) (k : Nat) (v : Int32), fv_gw (fv_sa s k (Int32.ofNat o) v) k o = v := fun s k v => by
    have := s_ak s k (Int32.ofNat o) v
    rw [i2] at this; exact this
  obtain ⟨t10, t16⟩ := qWo_t h40 hw
  obtain ⟨τ1, x1, f1, k1⟩ := m_go (N := N) hS hN hp z.1 k
  have hp1 := hb.2.2.1
  generalize hp1e : (qT B n p).2.2.1 = p1 at k1 hp1 t10 t16
  have z1 := mZ_q z f1
  have hb1 := qT_b hS p1 hp1
  have gw1 : ∀ a i, fv_gw τ1 a i = fv_gw τ a i := fun a i => by show τ1.2.2.1 a i = _; rw [f1.2.1]
  have hp2 := hb1.2.2.1
  generalize hp2e : (qT B n p1).2.2.1 = p2 at hp2
  have hb2 := qT_b hS p2 hp2
  refine mOo_t (mFq_q f1) (f1.1 28 (by omega)) ?_
  -- an expression in ( )
  have e290 : ∀ s : fv_S, mZ B n sec L h I org s → qMt B (qT B n p1) s → (∀ a i, 8 ≤ a → fv_gw s a i = fv_gw τ a i) → mOo B n sec L h I org o (5, 0, false, p1, qcl B n (qEX B n p1).2) s (zX8_readPlace_290 N (Int32.ofNat o) s) := by
    intro s zs ks gs
    unfold zX8_readPlace_290
    rw [if_pos i1, if_pos i1, ks.1.2.2.1]
    have fq : mFq o s (fv_sa (fv_sa s 8 (Int32.ofNat o) 15) 10 (Int32.ofNat o) (Int32.ofNat (qT B n p1).2.1)) := mFq_sa (by omega) (mFq_sa (by omega) (mFq_r o s) 8 _ (by omega)) 10 _ (by omega)
    refine mOo_t fq rfl (mOo_v (N := N) hS hN (mZ_p zs fq zs.2.2.2.2.2.1) (qMt_a (qMt_a ks _ _ _) _ _ _) hp1 5 0 false ⟨?_, ?_, ?_, ?_, fun _ => rd _ _ _⟩)
    · rw [s_an _ _ _ _ _ (by omega)]; exact rd _ _ _
    · rw [s_an _ _ _ _ _ (by omega), s_an _ _ _ _ _ (by omega), gs 9 o (by omega), h9]; rfl
    · rw [s_an _ _ _ _ _ (by omega), s_an _ _ _ _ _ (by omega), gs 12 o (by omega), h12]; rfl
    · rw [s_an _ _ _ _ _ (by omega), s_an _ _ _ _ _ (by omega), gs 11 o (by omega), h11]; rfl
  unfold zX8_readPlace
  rw [x1, fv_bv_rv]
  have e2 := (m_k k1.1 2 (by omega)).trans (qmk_e (qT B n p1).1).2.2.1
  have gs1 : ∀ a i, 8 ≤ a → fv_gw τ1 a i = fv_gw τ a i := fun a i _ => gw1 a i
  by_cases t11 : (qT B n p1).1 = 1
  · -- a name
    rw [if_neg (show ¬ ¬ fv_gi τ1 3 = 2 from not_not_intro (e2.2 t11)), k1.1.2.2.1, k1.1.2.2.2.2.2, if_pos t11]
    obtain ⟨hz, _⟩ := qna_nz hS t11
    have el : qnm B (qT B n p1).2.1 ((qT B n p1).2.2.1 - (qT B n p1).2.1) = qna B (qT B n p1) := rfl
    rw [el]
    have ert : qrt B (qT B n p1) = qri (qna B (qT B n p1)) := by unfold qrt; rw [if_pos t11]
    obtain ⟨τ2, x2, f2, k2⟩ := m_go (N := N) hS hN hp1 z1.1 k1
    rw [hp2e] at k2
    have z2 := mZ_q z1 f2
    have gw2 : ∀ a i, fv_gw τ2 a i = fv_gw τ a i := fun a i => (show fv_gw τ2 a i = fv_gw τ1 a i by show τ2.2.2.1 a i = _; rw [f2.2.1]).trans (gw1 a i)
    refine mOo_t (mFq_q f2) (f2.1 28 (by omega)) ?_
    -- back to the name
    have e285 : mOo B n sec L h I org o (5, 0, false, p1, qcl B n (qEX B n p1).2) τ2 (zX8_readPlace_285 N (Int32.ofNat o) (Int32.ofNat (qT B n p1).2.1) τ2) := by
      unfold zX8_readPlace_285
      obtain ⟨τ3, x3, f3, k3⟩ := m_goTo (N := N) hS hN hb1.2.1 z2.1
      rw [(qT_pl hS t10).1] at k3
      rw [x3, fv_bv_rv]
      exact mOo_t (mFq_q f3) (f3.1 28 (by omega)) (e290 τ3 (mZ_q z2 f3) k3 (fun a i _ => (show fv_gw τ3 a i = fv_gw τ2 a i by show τ3.2.2.1 a i = _; rw [f3.2.1]).trans (gw2 a i)))
    have sg : ∀ c, qsg c = true → zX8_isSign (Int32.ofNat c) τ2 = fv_ri (q01 ((qT B n p2).1 == c)) τ2 := fun c hc => m_sgn hb2 k2.1 c hc
    -- IX, IY
    have e134 : (¬ ((qT B n p2).1 = 41 ∧ (qrt B (qT B n p1) = 88 ∨ qrt B (qT B n p1) = 86 ∨ qrt B (qT B n p1) = 87 ∨ qrt B (qT B n p1) = 89 ∨ qrt B (qT B n p1) = 77))) → mOo B n sec L h I org o (qOp B n p) τ2 (zX8_readPlace_134 N (Int32.ofNat o) (Int32.ofNat (qT B n p1).2.1) (qwd (qna B (qT B n p1))) τ2) := by
      intro hnd
      unfold zX8_readPlace_134
      rw [m_index hz, fv_bi_ri]
      by_cases cj : qrt B (qT B n p1) = 90 ∨ qrt B (qT B n p1) = 91
      · have ix : (if qri (qna B (qT B n p1)) < 99 then (fun j => if j = 90 then 1 else if j = 91 then 2 else -1) (qri (qna B (qT B n p1))) else -1) = Int32.ofNat (qrt B (qT B n p1) - 89) := by
          rw [← ert]
          rcases cj with e | e <;> rw [e] <;> rfl
        rw [ix, if_neg (show ¬ Int32.ofNat (qrt B (qT B n p1) - 89) ≤ 0 from fun e => by have := (p_leN _ 0 (by omega) (by omega)).1 e; omega)]
        obtain ⟨Q1, Q2⟩ := qOp_1 hp1e hp2e ⟨h40, hw⟩ cj
        have e169 : ((qT B n p2).1 = 41 ∨ (qT B n p2).1 = 43 ∨ (qT B n p2).1 = 45) → mOo B n sec L h I org o (qOp B n p) τ2 (zX8_readPlace_169 N (Int32.ofNat o) (qwd (qna B (qT B n p1))) τ2) := by
          intro c4
          have sgs : ∀ (s : fv_S) (c : Nat), qsg c = true → qMt B (qT B n p2) s → zX8_isSign (Int32.ofNat c) s = fv_ri (q01 ((qT B n p2).1 == c)) s := fun s c hc ks => m_sgn hb2 ks.1 c hc
          unfold zX8_readPlace_169
          have ka := qMt_a k2 8 (Int32.ofNat o) 14
          rw [if_pos i1, m_index hz, fv_bi_ri, ix, if_pos i1]
          have kb := qMt_a ka 9 (Int32.ofNat o) (Int32.ofNat (qrt B (qT B n p1) - 89))
          rw [show zX8_isSign 41 _ = _ from sgs _ 41 rfl kb, fv_bi_ri, if_pos i1, x_nar]
          have kc := qMt_a kb 12 (Int32.ofNat o) (q01 ((qT B n p2).1 == 41))
          rw [show zX8_isSign 45 _ = _ from sgs _ 45 rfl kc, fv_bi_ri, if_pos i1, x_nar]
          have kd := qMt_a kc 11 (Int32.ofNat o) (q01 ((qT B n p2).1 == 45))
          have fq : mFq o τ2 (fv_sa (fv_sa (fv_sa (fv_sa τ2 8 (Int32.ofNat o) 14) 9 (Int32.ofNat o) (Int32.ofNat (qrt B (qT B n p1) - 89))) 12 (Int32.ofNat o) (q01 ((qT B n p2).1 == 41))) 11 (Int32.ofNat o) (q01 ((qT B n p2).1 == 45))) := mFq_sa (by omega) (mFq_sa (by omega) (mFq_sa (by omega) (mFq_sa (by omega) (mFq_r o τ2) 8 _ (by omega)) 9 _ (by omega)) 12 _ (by omega)) 11 _ (by omega)
          have g8 : fv_gw (fv_sa (fv_sa (fv_sa (fv_sa τ2 8 (Int32.ofNat o) 14) 9 (Int32.ofNat o) (Int32.ofNat (qrt B (qT B n p1) - 89))) 12 (Int32.ofNat o) (q01 ((qT B n p2).1 == 41))) 11 (Int32.ofNat o) (q01 ((qT B n p2).1 == 45))) 8 o = 14 := by rw [s_an _ _ _ _ _ (by omega), s_an _ _ _ _ _ (by omega), s_an _ _ _ _ _ (by omega)]; exact rd _ _ _
          have g9 : fv_gw (fv_sa (fv_sa (fv_sa (fv_sa τ2 8 (Int32.ofNat o) 14) 9 (Int32.ofNat o) (Int32.ofNat (qrt B (qT B n p1) - 89))) 12 (Int32.ofNat o) (q01 ((qT B n p2).1 == 41))) 11 (Int32.ofNat o) (q01 ((qT B n p2).1 == 45))) 9 o = Int32.ofNat (qrt B (qT B n p1) - 89) := by rw [s_an _ _ _ _ _ (by omega), s_an _ _ _ _ _ (by omega)]; exact rd _ _ _
          have g12 : fv_gw (fv_sa (fv_sa (fv_sa (fv_sa τ2 8 (Int32.ofNat o) 14) 9 (Int32.ofNat o) (Int32.ofNat (qrt B (qT B n p1) - 89))) 12 (Int32.ofNat o) (q01 ((qT B n p2).1 == 41))) 11 (Int32.ofNat o) (q01 ((qT B n p2).1 == 45))) 12 o = q01 ((qT B n p2).1 == 41) := by rw [s_an _ _ _ _ _ (by omega)]; exact rd _ _ _
          have g11 : fv_gw (fv_sa (fv_sa (fv_sa (fv_sa τ2 8 (Int32.ofNat o) 14) 9 (Int32.ofNat o) (Int32.ofNat (qrt B (qT B n p1) - 89))) 12 (Int32.ofNat o) (q01 ((qT B n p2).1 == 41))) 11 (Int32.ofNat o) (q01 ((qT B n p2).1 == 45))) 11 o = q01 ((qT B n p2).1 == 45) := rd _ _ _
          have s8 : fv_gi (fv_sa (fv_sa (fv_sa (fv_sa τ2 8 (Int32.ofNat o) 14) 9 (Int32.ofNat o) (Int32.ofNat (qrt B (qT B n p1) - 89))) 12 (Int32.ofNat o) (q01 ((qT B n p2).1 == 41))) 11 (Int32.ofNat o) (q01 ((qT B n p2).1 == 45))) 8 = 0 := z2.2.2.2.2.2.1
          have s28 : fv_gi (fv_sa (fv_sa (fv_sa (fv_sa τ2 8 (Int32.ofNat o) 14) 9 (Int32.ofNat o) (Int32.ofNat (qrt B (qT B n p1) - 89))) 12 (Int32.ofNat o) (q01 ((qT B n p2).1 == 41))) 11 (Int32.ofNat o) (q01 ((qT B n p2).1 == 45))) 28 = fv_gi τ2 28 := rfl
          generalize fv_sa (fv_sa (fv_sa (fv_sa τ2 8 (Int32.ofNat o) 14) 9 (Int32.ofNat o) (Int32.ofNat (qrt B (qT B n p1) - 89))) 12 (Int32.ofNat o) (q01 ((qT B n p2).1 == 41))) 11 (Int32.ofNat o) (q01 ((qT B n p2).1 == 45)) = s at kd fq g8 g9 g12 g11 s8 s28
          have zs := mZ_p z2 fq s8
          obtain ⟨τ3, x3, f3, k3⟩ := m_go (N := N) hS hN hp2 zs.1 kd
          have hp3 := hb2.2.2.1
          have gw3 : ∀ a i, fv_gw τ3 a i = fv_gw s a i := fun a i => by show τ3.2.2.1 a i = _; rw [f3.2.1]
          have z3 := mZ_q zs f3
          have ga12 : fv_ga τ3 12 (Int32.ofNat o) = q01 ((qT B n p2).1 == 41) := by show fv_gw τ3 12 (Int32.ofNat o).toNatClampNeg = _; rw [i2, gw3]; exact g12
          rw [x3, fv_bv_rv, if_pos i1, ga12]
          by_cases c41 : (qT B n p2).1 = 41
          · rw [show ((qT B n p2).1 == 41) = true by simp [c41], if_neg (show ¬ q01 true = 0 by decide), Q1 c41]
            refine ⟨fun f hf => absurd hf (by simp), fun p' hp' => Or.inl ?_⟩
            have := Sum.inr.inj hp'
            subst this
            refine ⟨τ3, rfl, mFq_t fq (mFq_q f3), (f3.1 28 (by omega)).trans s28, z3, k3, hp3, ?_, ?_, ?_, ?_, fun h4 => by omega⟩
            · rw [gw3, g8]; rfl
            · rw [gw3, g9]; rfl
            · rw [gw3, g12, show ((qT B n p2).1 == 41) = true by simp [c41]]; rfl
            · rw [gw3, g11, show ((qT B n p2).1 == 45) = false by simp [c41]]; rfl
          · rw [show ((qT B n p2).1 == 41) = false by simp [c41], if_pos (show q01 false = 0 by decide), if_pos i1, Q2 (by omega), k3.1.2.2.1]
            have fq3 : mFq o τ2 (fv_sa τ3 10 (Int32.ofNat o) (Int32.ofNat (qT B n (qT B n p2).2.2.1).2.1)) := mFq_sa (by omega) (mFq_t fq (mFq_q f3)) 10 _ (by omega)
            refine mOo_t fq3 ((f3.1 28 (by omega)).trans s28) (mOo_v (N := N) hS hN (mZ_p z2 fq3 ((f3.1 8 (by omega)).trans s8)) (qMt_a k3 _ _ _) hp3 4 (qrt B (qT B n p1)) (decide ((qT B n p2).1 = 45)) ⟨?_, ?_, ?_, ?_, fun _ => rd _ _ _⟩)
            · rw [s_an _ _ _ _ _ (by omega), gw3, g8]; rfl
            · rw [s_an _ _ _ _ _ (by omega), gw3, g9]; rfl
            · rw [s_an _ _ _ _ _ (by omega), gw3, g12, show ((qT B n p2).1 == 41) = false by simp [c41]]; rfl
            · rw [s_an _ _ _ _ _ (by omega), gw3, g11]
              by_cases c45 : (qT B n p2).1 = 45
              · rw [show ((qT B n p2).1 == 45) = true by simp [c45], decide_eq_true c45]; rfl
              · rw [show ((qT B n p2).1 == 45) = false by simp [c45], decide_eq_false c45]; rfl
        rw [show zX8_isSign 41 τ2 = _ from sg 41 rfl, fv_bi_ri]
        by_cases c1 : (qT B n p2).1 = 41
        · rw [show ((qT B n p2).1 == 41) = true by simp [c1], if_pos (show ¬ q01 true = 0 by decide)]; exact e169 (Or.inl c1)
        rw [show ((qT B n p2).1 == 41) = false by simp [c1], if_neg (show ¬ ¬ q01 false = 0 by decide), show zX8_isSign 43 τ2 = _ from sg 43 rfl, fv_bi_ri]
        by_cases c2 : (qT B n p2).1 = 43
        · rw [show ((qT B n p2).1 == 43) = true by simp [c2], if_pos (show ¬ q01 true = 0 by decide)]; exact e169 (Or.inr (Or.inl c2))
        rw [show ((qT B n p2).1 == 43) = false by simp [c2], if_neg (show ¬ ¬ q01 false = 0 by decide), show zX8_isSign 45 τ2 = _ from sg 45 rfl, fv_bi_ri]
        by_cases c3 : (qT B n p2).1 = 45
        · rw [show ((qT B n p2).1 == 45) = true by simp [c3], if_neg (show ¬ q01 true = 0 by decide)]; exact e169 (Or.inr (Or.inr c3))
        · rw [show ((qT B n p2).1 == 45) = false by simp [c3], if_pos (show q01 false = 0 by decide), (qOp_2 hp1e hp2e ⟨h40, hw⟩ (fun e => by omega)).2 hnd]; exact e285
      · have ix : (if qri (qna B (qT B n p1)) < 99 then (fun j => if j = 90 then 1 else if j = 91 then 2 else -1) (qri (qna B (qT B n p1))) else -1) = (-1 : Int32) := by
          rw [← ert]
          by_cases c : qrt B (qT B n p1) < 99
          · rw [if_pos c]
            show (if qrt B (qT B n p1) = 90 then (1 : Int32) else if qrt B (qT B n p1) = 91 then 2 else -1) = -1
            rw [if_neg (by omega), if_neg (by omega)]
          · rw [if_neg c]
        rw [ix, if_pos (by decide), (qOp_2 hp1e hp2e ⟨h40, hw⟩ (fun e => cj e.1)).2 hnd]
        exact e285
    -- a name that may stand in ( )
    have e104 : ∀ j c : Nat, qrt B (qT B n p1) = j → (j = 88 ∨ j = 86 ∨ j = 87 ∨ j = 89 ∨ j = 77) → qmk2 2 j = c → 1 ≤ c → c ≤ 20 → mOo B n sec L h I org o (qOp B n p) τ2 (zX8_readPlace_104 N (Int32.ofNat o) (Int32.ofNat (qT B n p1).2.1) (qwd (qna B (qT B n p1))) (Int32.ofNat c) τ2) := by
      intro j c ej cj ec h1 h20
      unfold zX8_readPlace_104
      rw [if_neg (show ¬ Int32.ofNat c ≤ 0 from fun e => by have := (p_leN c 0 (by omega) (by omega)).1 e; omega), show zX8_isSign 41 τ2 = _ from sg 41 rfl, fv_bi_ri]
      by_cases c41 : (qT B n p2).1 = 41
      · rw [show ((qT B n p2).1 == 41) = true by simp [c41], if_neg (show ¬ q01 true = 0 by decide), if_pos i1, (qOp_2 hp1e hp2e ⟨h40, hw⟩ (fun e => by omega)).1 ⟨c41, by omega⟩, ej]
        have fq : mFq o τ2 (fv_sa τ2 8 (Int32.ofNat o) (Int32.ofNat c)) := mFq_sa (by omega) (mFq_r o τ2) 8 _ (by omega)
        have zs := mZ_p z2 fq z2.2.2.2.2.2.1
        obtain ⟨τ3, x3, f3, k3⟩ := m_go (N := N) hS hN hp2 zs.1 (qMt_a k2 8 (Int32.ofNat o) (Int32.ofNat c))
        have gw3 : ∀ a i, fv_gw τ3 a i = fv_gw (fv_sa τ2 8 (Int32.ofNat o) (Int32.ofNat c)) a i := fun a i => by show τ3.2.2.1 a i = _; rw [f3.2.1]
        rw [x3, fv_bv_rv]
        refine ⟨fun f hf => absurd hf (by simp), fun p' hp' => Or.inl ?_⟩
        have := Sum.inr.inj hp'
        subst this
        refine ⟨τ3, rfl, mFq_t fq (mFq_q f3), f3.1 28 (by omega), mZ_q zs f3, k3, hb2.2.2.1, ?_, ?_, ?_, ?_, fun h4 => by omega⟩
        · rw [gw3]; show _ = Int32.ofNat (qmk2 2 j); rw [ec]; exact rd _ _ _
        · rw [gw3, s_an _ _ _ _ _ (by omega), gw2, h9]; rfl
        · rw [gw3, s_an _ _ _ _ _ (by omega), gw2, h12]; rfl
        · rw [gw3, s_an _ _ _ _ _ (by omega), gw2, h11]; rfl
      · rw [show ((qT B n p2).1 == 41) = false by simp [c41], if_pos (show q01 false = 0 by decide)]
        exact e134 (fun e => c41 e.1)
    unfold zX8_readPlace_27
    rw [if_neg (show ¬ (1 : Int32) = 0 by decide), x2, fv_bv_rv]
    have wq : ∀ (j : Nat) (c : Int64), j < 99 → c = qwd (p_nm j) → (lg_cmp (qwd (qna B (qT B n p1))) c = 0 ↔ qrt B (qT B n p1) = j) := fun j c hj hc => by rw [ert]; exact m_wq hz hj hc
    by_cases c1 : qrt B (qT B n p1) = 88
    · rw [if_neg (not_not_intro ((wq 88 18508 (by omega) (by decide +kernel)).2 c1))]; exact e104 88 9 c1 (by omega) rfl (by omega) (by omega)
    rw [if_pos (fun e => c1 ((wq 88 18508 (by omega) (by decide +kernel)).1 e))]
    by_cases c2 : qrt B (qT B n p1) = 86
    · rw [if_neg (not_not_intro ((wq 86 16963 (by omega) (by decide +kernel)).2 c2))]; exact e104 86 10 c2 (by omega) rfl (by omega) (by omega)
    rw [if_pos (fun e => c2 ((wq 86 16963 (by omega) (by decide +kernel)).1 e))]
    by_cases c3 : qrt B (qT B n p1) = 87
    · rw [if_neg (not_not_intro ((wq 87 17477 (by omega) (by decide +kernel)).2 c3))]; exact e104 87 11 c3 (by omega) rfl (by omega) (by omega)
    rw [if_pos (fun e => c3 ((wq 87 17477 (by omega) (by decide +kernel)).1 e))]
    by_cases c4 : qrt B (qT B n p1) = 89
    · rw [if_neg (not_not_intro ((wq 89 21328 (by omega) (by decide +kernel)).2 c4))]; exact e104 89 12 c4 (by omega) rfl (by omega) (by omega)
    rw [if_pos (fun e => c4 ((wq 89 21328 (by omega) (by decide +kernel)).1 e))]
    by_cases c5 : qrt B (qT B n p1) = 77
    · rw [if_neg (not_not_intro ((wq 77 67 (by omega) (by decide +kernel)).2 c5))]; exact e104 77 13 c5 (by omega) rfl (by omega) (by omega)
    rw [if_pos (fun e => c5 ((wq 77 67 (by omega) (by decide +kernel)).1 e))]
    unfold zX8_readPlace_104
    rw [if_pos (show (0 : Int32) ≤ 0 by decide)]
    exact e134 (fun e => by omega)
  · rw [if_pos (show ¬ fv_gi τ1 3 = 2 from fun e => t11 (e2.1 e))]
    unfold zX8_readPlace_27
    rw [if_pos rfl]
    have q99 : qrt B (qT B n p1) = 99 := by unfold qrt; rw [if_neg t11]
    rw [(qOp_2 hp1e hp2e ⟨h40, hw⟩ (fun e => by omega)).2 (fun e => by omega)]
    exact e290 τ1 z1 k1 gs1
