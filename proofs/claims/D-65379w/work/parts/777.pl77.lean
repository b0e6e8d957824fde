set_option maxRecDepth 100000
set_option maxHeartbeats 4000000
/-! The plain law: the class reads an operand. -/
def xTh (o : Nat) (G : Option (Nat × Nat)) (f : Nat × Nat) (σ : fv_S) (out : Option fv_O) : Prop := ∃ σ', out = fv_th (Int32.ofNat f.1) (Int32.ofNat f.2) σ' ∧ fv_n σ' = fv_n σ + 1 ∧ xFp o σ σ' ∧ (1 ≤ f.1 ∧ f.1 ≤ 9 ∧ f.2 ≤ 6000) ∧ xR G σ' ∧ (∀ g, G = some g → g.2 < f.2)
theorem xTh_t {o : Nat} {G : Option (Nat × Nat)} {f : Nat × Nat} {σ0 σ : fv_S} {out : Option fv_O} (h : xFp o σ0 σ) (hn : fv_n σ = fv_n σ0) (t : xTh o G f σ out) : xTh o G f σ0 out := by
  obtain ⟨σ', a, b, c, d⟩ := t; exact ⟨σ', a, b.trans (by rw [hn]), xFp_t h c, d⟩
theorem xTh_b {o : Nat} {G : Option (Nat × Nat)} {f : Nat × Nat} {σ : fv_S} {out : Option fv_O} (t : xTh o G f σ out) (k : fv_S → Option fv_O) : xTh o G f σ (fv_bv out k fv_th) := by
  obtain ⟨σ', a, b⟩ := t; rw [a, fv_bv_th]; exact ⟨σ', rfl, b⟩
/-- behind an operand's ) -/
theorem x_149 {B : Nat → Nat} {n N p o : Nat} (hS : qS B n) (hN : 7000 ≤ N) {sec : Bool} {L : List (List Nat × Int32)} {h : Nat} {I : List (Bool × Bool)} {org : Nat} {G : Option (Nat × Nat)} {σ : fv_S} (P : xP B n sec L h I org G p σ) :
    ((qT B n p).1 = 41 → ∃ σ', zX3_place_149 N σ = fv_rv σ' ∧ qGx σ σ' ∧ xP B n sec L h I org G (qT B n p).2.2.1 σ') ∧ ((qT B n p).1 ≠ 41 → xTh o G (qwr (qT B n p), (qT B n p).2.1) σ (zX3_place_149 N σ)) := by
  have hn := hS.1
  have hp := P.2.1.1
  have hb := qT_b hS p hp
  obtain ⟨A, C⟩ := x_want (N := N) hS hN P.1.1 P.2.1 41 (by omega)
  unfold zX3_place_149
  refine ⟨fun c => ?_, fun c => ?_⟩
  · obtain ⟨σ', x, f, a⟩ := A c
    rw [show zX4_want N 41 σ = _ from x, fv_bv_rv]
    have := hb.1
    have := hb.2.2.2.1 (by omega) (by omega)
    exact ⟨σ', rfl, f, xP_g P f a (by omega)⟩
  · obtain ⟨σ', x, f, k⟩ := C c
    rw [show zX4_want N 41 σ = _ from x, fv_bv_th]
    have wr : 1 ≤ qwr (qT B n p) ∧ qwr (qT B n p) ≤ 2 := by unfold qwr; split <;> omega
    refine ⟨fv_sc σ', rfl, by show fv_n σ' + 1 = _; rw [qGx_n f], ⟨(xFp_g (o := o) f).1, (xFp_g (o := o) f).2.1, (xFp_g (o := o) f).2.2.1, (xFp_g (o := o) f).2.2.2⟩, ⟨wr.1, by omega, by have := hb.2.1; show (qT B n p).2.1 ≤ 6000; omega⟩, xR_c P.2.2.1 (f.1 1563 (by omega)) (f.1 1564 (by omega)), fun g hg => ?_⟩
    have := P.2.2.2 g hg
    have := hb.1
    show g.2 < (qT B n p).2.1
    omega
def xOk (B : Nat → Nat) (n : Nat) (sec : Bool) (L : List (List Nat × Int32)) (h : Nat) (I : List (Bool × Bool)) (org o c j : Nat) (neg : Bool) (pe : Nat) (G : Option (Nat × Nat)) (p' : Nat) (σ : fv_S) (out : Option fv_O) : Prop := ∃ σ', out = fv_rv σ' ∧ fv_n σ' = fv_n σ ∧ xFp o σ σ' ∧ fv_gi σ' 1555 = fv_gi σ 1555 ∧ xP B n sec L h I org G p' σ' ∧ xOd B n sec L org o c j neg pe σ'
/-- an expression in ( ) -/
theorem x_oew {B : Nat → Nat} {n N p : Nat} (hS : qS B n) (hN : 7000 ≤ N) {sec : Bool} {L : List (List Nat × Int32)} {h : Nat} {I : List (Bool × Bool)} {org : Nat} {G : Option (Nat × Nat)} {σ : fv_S} (P : xP B n sec L h I org G p σ) {o : Nat} (ho : o < 2) (neg : Bool) (c j : Nat) (hc : 4 ≤ c ∧ c ≤ 5) (h21 : fv_gw σ 21 o = Int32.ofNat (qsr c)) (h22 : c = 4 → fv_gw σ 22 o = Int32.ofNat j) :
    (∀ f, qcl B n (qEX B n p).2 = .inl f → xTh o (qoe G (if sec = true then ((qEX B n p).1 (qen L org)).1 else none)) f σ (fv_bi (zX3_exp N σ) (fun r σ7 => fv_bv (zX3_value (Int32.ofNat o) (if neg = true then -r else r) σ7) (fun σ9 => zX3_place_149 N σ9) fv_no) fv_th)) ∧
    (∀ p', qcl B n (qEX B n p).2 = .inr p' → xOk B n sec L h I org o c j neg p (qoe G (if sec = true then ((qEX B n p).1 (qen L org)).1 else none)) p' σ (fv_bi (zX3_exp N σ) (fun r σ7 => fv_bv (zX3_value (Int32.ofNat o) (if neg = true then -r else r) σ7) (fun σ9 => zX3_place_149 N σ9) fv_no) fv_th)) := by
  obtain ⟨A, C⟩ := x_oex (N := N) hS hN P ho neg (fun σ9 => zX3_place_149 N σ9)
  unfold qcl
  cases hoo : (qEX B n p).2 with
  | inl f =>
    refine ⟨fun f' hf' => ?_, fun p' hp' => absurd hp' (by simp)⟩
    have := Sum.inl.inj hf'
    subst this
    exact A f hoo
  | inr p1 =>
    obtain ⟨σ1, x1, n1, f1, e1, P1, a21, a22, a23, a26, a24, a25⟩ := C p1 hoo
    obtain ⟨W1, W2⟩ := x_149 (N := N) (o := o) hS hN P1
    rw [x1]
    show (∀ f, (if (qT B n p1).1 = 41 then _ else _ : qOu) = .inl f → _) ∧ (∀ p', (if (qT B n p1).1 = 41 then _ else _ : qOu) = .inr p' → _)
    by_cases c41 : (qT B n p1).1 = 41
    · rw [if_pos c41]
      refine ⟨fun f hf => absurd hf (by simp), fun p' hp' => ?_⟩
      have := Sum.inr.inj hp'
      subst this
      obtain ⟨σ2, x2, f2, P2⟩ := W1 c41
      have gw : ∀ a i, fv_gw σ2 a i = fv_gw σ1 a i := fun a i => by show σ2.2.2.1 a i = _; rw [f2.2]
      refine ⟨σ2, x2, (qGx_n f2).trans n1, xFp_t f1 (xFp_g f2), (f2.1 1555 (by omega)).trans e1, P2, ?_, fun h1 h2 => ?_, ?_, fun _ => ⟨?_, fun hs => ?_, fun hs hg => ?_⟩⟩
      · rw [gw, a21, h21]
      · rw [gw, a22]; exact h22 (by omega)
      · rw [gw, a23, decide_eq_true hc.1]; rfl
      · rw [gw, a26]
      · rw [gw]; exact a24 hs
      · rw [gw]; exact a25 hs hg
    · rw [if_neg c41]
      refine ⟨fun f hf => ?_, fun p' hp' => absurd hp' (by simp)⟩
      have := Sum.inl.inj hf
      subst this
      exact xTh_t f1 n1 (W2 c41)
theorem qrt_lt {B : Nat → Nat} {t : qTok} {j : Nat} (h : qrt B t = j) (hj : j < 99) : t.1 = 1 := by
  unfold qrt at h
  by_cases c : t.1 = 1
  · exact c
  · rw [if_neg c] at h; omega
theorem qrt_le (B : Nat → Nat) (t : qTok) : qrt B t ≤ 99 := by
  unfold qrt; split
  · exact qri_le _
  · omega
theorem x_rsv {B : Nat → Nat} {n p : Nat} (hS : qS B n) {N : Nat} (hN : 7000 ≤ N) {σ : fv_S} (h : qX B n σ) (hp : p ≤ n) (k : qXt n (qT B n p) σ) (X : Int32 → fv_S → Option fv_O) : (if ¬ qxk n (qT B n p) = 1 then X (-1) σ else fv_bi (zX3_reserved N σ) (fun r s => X r s) fv_no) = X (qxi (qrt B (qT B n p)) 99) σ := by
  have hb := qT_b hS p hp
  unfold qrt
  by_cases c : (qT B n p).1 = 1
  · rw [if_neg (show ¬ ¬ qxk n (qT B n p) = 1 from not_not_intro ((qxk_ne hb 1 (by omega) (by omega) (by omega)).2 c)), x_res hS hN hb h k c, fv_bi_ri, if_pos c]
  · rw [if_pos (show ¬ qxk n (qT B n p) = 1 from fun e => c ((qxk_ne hb 1 (by omega) (by omega) (by omega)).1 e)), if_neg c]; rfl
/-- an operand's outcome in the class -/
def xOo (B : Nat → Nat) (n : Nat) (sec : Bool) (L : List (List Nat × Int32)) (h : Nat) (I : List (Bool × Bool)) (org o : Nat) (G : Option (Nat × Nat)) (d : Nat × Nat × Bool × Nat × qOu) (σ : fv_S) (out : Option fv_O) : Prop :=
  (∀ f, d.2.2.2.2 = .inl f → xTh o (qoe G (if sec = true ∧ 4 ≤ d.1 then ((qEX B n d.2.2.2.1).1 (qen L org)).1 else none)) f σ out) ∧ (∀ p', d.2.2.2.2 = .inr p' → xOk B n sec L h I org o d.1 d.2.1 d.2.2.1 d.2.2.2.1 (qoe G (if sec = true ∧ 4 ≤ d.1 then ((qEX B n d.2.2.2.1).1 (qen L org)).1 else none)) p' σ out)
theorem xOo_t {B : Nat → Nat} {n : Nat} {sec : Bool} {L : List (List Nat × Int32)} {h : Nat} {I : List (Bool × Bool)} {org o : Nat} {G : Option (Nat × Nat)} {d : Nat × Nat × Bool × Nat × qOu} {σ0 σ : fv_S} {out : Option fv_O} (f : xFp o σ0 σ) (hn : fv_n σ = fv_n σ0) (h5 : fv_gi σ 1555 = fv_gi σ0 1555) (H : xOo B n sec L h I org o G d σ out) : xOo B n sec L h I org o G d σ0 out := by
  refine ⟨fun g hg => xTh_t f hn (H.1 g hg), fun p' hp' => ?_⟩
  obtain ⟨σ', y1, y2, y3, y4, y5⟩ := H.2 p' hp'
  exact ⟨σ', y1, y2.trans hn, xFp_t f y3, y4.trans h5, y5⟩
theorem xOo_v {B : Nat → Nat} {n N p : Nat} (hS : qS B n) (hN : 7000 ≤ N) {sec : Bool} {L : List (List Nat × Int32)} {h : Nat} {I : List (Bool × Bool)} {org : Nat} {G : Option (Nat × Nat)} {σ : fv_S} (P : xP B n sec L h I org G p σ) {o : Nat} (ho : o < 2) (neg : Bool) (c j : Nat) (hc : 4 ≤ c ∧ c ≤ 5) (h21 : fv_gw σ 21 o = Int32.ofNat (qsr c)) (h22 : c = 4 → fv_gw σ 22 o = Int32.ofNat j) : xOo B n sec L h I org o G (c, j, neg, p, qcl B n (qEX B n p).2) σ (fv_bi (zX3_exp N σ) (fun r σ7 => fv_bv (zX3_value (Int32.ofNat o) (if neg = true then -r else r) σ7) (fun σ9 => zX3_place_149 N σ9) fv_no) fv_th) := by
  obtain ⟨A, C⟩ := x_oew (N := N) hS hN P ho neg c j hc h21 h22
  have eg : (if sec = true ∧ 4 ≤ c then ((qEX B n p).1 (qen L org)).1 else none) = (if sec = true then ((qEX B n p).1 (qen L org)).1 else none) := by
    by_cases hs : sec = true
    · rw [if_pos ⟨hs, hc.1⟩, if_pos hs]
    · rw [if_neg (fun e => hs e.1), if_neg hs]
  refine ⟨fun f hf => ?_, fun p' hp' => ?_⟩
  · show xTh o (qoe G (if sec = true ∧ 4 ≤ c then _ else _)) f σ _; rw [eg]; exact A f hf
  · show xOk B n sec L h I org o c j neg p (qoe G (if sec = true ∧ 4 ≤ c then _ else _)) p' σ _; rw [eg]; exact C p' hp'
theorem qOp_1 {B : Nat → Nat} {n p p1 p2 : Nat} (e1 : (qT B n p).2.2.1 = p1) (e2 : (qT B n p1).2.2.1 = p2) (h : (qT B n p).1 = 40 ∧ qWo B n p = true) (c : qrt B (qT B n p1) = 90 ∨ qrt B (qT B n p1) = 91) :
    ((qT B n p2).1 = 41 → qOp B n p = (3, qrt B (qT B n p1), false, 0, .inr (qT B n p2).2.2.1)) ∧ ((qT B n p2).1 = 43 ∨ (qT B n p2).1 = 45 → qOp B n p = (4, qrt B (qT B n p1), decide ((qT B n p2).1 = 45), (qT B n p2).2.2.1, qcl B n (qEX B n (qT B n p2).2.2.1).2)) := by
  subst e1; subst e2
  unfold qOp
  rw [if_pos h]
  refine ⟨fun c41 => ?_, fun c4 => ?_⟩
  · rw [if_pos ⟨c, Or.inl c41⟩, if_pos c41]
  · rw [if_pos ⟨c, Or.inr c4⟩, if_neg (by omega)]
theorem qOp_2 {B : Nat → Nat} {n p p1 p2 : Nat} (e1 : (qT B n p).2.2.1 = p1) (e2 : (qT B n p1).2.2.1 = p2) (h : (qT B n p).1 = 40 ∧ qWo B n p = true) (c : ¬ ((qrt B (qT B n p1) = 90 ∨ qrt B (qT B n p1) = 91) ∧ ((qT B n p2).1 = 41 ∨ (qT B n p2).1 = 43 ∨ (qT B n p2).1 = 45))) :
    (((qT B n p2).1 = 41 ∧ (qrt B (qT B n p1) = 88 ∨ qrt B (qT B n p1) = 86 ∨ qrt B (qT B n p1) = 87 ∨ qrt B (qT B n p1) = 89 ∨ qrt B (qT B n p1) = 77)) → qOp B n p = (2, qrt B (qT B n p1), false, 0, .inr (qT B n p2).2.2.1)) ∧ (¬ ((qT B n p2).1 = 41 ∧ (qrt B (qT B n p1) = 88 ∨ qrt B (qT B n p1) = 86 ∨ qrt B (qT B n p1) = 87 ∨ qrt B (qT B n p1) = 89 ∨ qrt B (qT B n p1) = 77)) → qOp B n p = (5, 0, false, p1, qcl B n (qEX B n p1).2)) := by
  subst e1; subst e2
  unfold qOp
  rw [if_pos h, if_neg c]
  exact ⟨fun d => if_pos d, fun d => if_neg d⟩
theorem qOp_3 {B : Nat → Nat} {n p : Nat} (h : ¬ ((qT B n p).1 = 40 ∧ qWo B n p = true)) :
    ((75 ≤ qrt B (qT B n p) ∧ qrt B (qT B n p) < 99 ∧ ((qT B n (qT B n p).2.2.1).1 = 0 ∨ (qT B n (qT B n p).2.2.1).1 = 44)) → qOp B n p = (1, qrt B (qT B n p), false, 0, .inr (qT B n p).2.2.1)) ∧ (¬ (75 ≤ qrt B (qT B n p) ∧ qrt B (qT B n p) < 99 ∧ ((qT B n (qT B n p).2.2.1).1 = 0 ∨ (qT B n (qT B n p).2.2.1).1 = 44)) → qOp B n p = (6, 0, false, p, (qEX B n p).2)) := by
  unfold qOp
  rw [if_neg h]
  exact ⟨fun d => if_pos d, fun d => if_neg d⟩
theorem xOo_k {B : Nat → Nat} {n : Nat} {sec : Bool} {L : List (List Nat × Int32)} {h : Nat} {I : List (Bool × Bool)} {org o : Nat} {G : Option (Nat × Nat)} {c j : Nat} {neg : Bool} {pe p' : Nat} {σ : fv_S} {out : Option fv_O} (hc : c < 4) (H : xOk B n sec L h I org o c j neg pe G p' σ out) : xOo B n sec L h I org o G (c, j, neg, pe, .inr p') σ out := by
  refine ⟨fun f hf => absurd hf (by simp), fun p1 hp1 => ?_⟩
  have := Sum.inr.inj hp1
  subst this
  show xOk B n sec L h I org o c j neg pe (qoe G (if sec = true ∧ 4 ≤ c then _ else none)) p' σ out
  rw [if_neg (fun e => by omega), qoe_n]; exact H
/-- an operand in ( ) as a whole -/
theorem x_plc {B : Nat → Nat} {n N p : Nat} (hS : qS B n) (hN : 7000 ≤ N) {sec : Bool} {L : List (List Nat × Int32)} {h : Nat} {I : List (Bool × Bool)} {org : Nat} {G : Option (Nat × Nat)} {σ : fv_S} (P : xP B n sec L h I org G p σ) (k : qXt n (qT B n p) σ) {o : Nat} (ho : o < 2) (h23 : fv_gw σ 23 o = 0) (h40 : (qT B n p).1 = 40) (hw : qWo B n p = true) : xOo B n sec L h I org o G (qOp B n p) σ (zX3_place N (Int32.ofNat o) σ) := by
  have hn := hS.1
  have hp := P.2.1.1
  have hb := qT_b hS p hp
  obtain ⟨i1, i2⟩ := p_inN o 2 ho (by omega)
  obtain ⟨t10, t16⟩ := qWo_t h40 hw
  obtain ⟨σ1, x1, f1, a1, _⟩ := x_pass (B := B) hb k (by omega) (by omega)
  have P1 := xP_g P f1 a1 (by have := hb.1; have := hb.2.2.2.1 (by omega) (by omega); omega)
  generalize hp1e : (qT B n p).2.2.1 = p1 at P1 t10 t16 a1
  obtain ⟨σ2, x2, f2, k2⟩ := x_look (N := N) hS hN P1.1.1 P1.2.1
  have hp1 := a1.1
  have hb1 := qT_b hS p1 hp1
  have P2 := xP_g P1 f2 (xAt_of hp1 k2) (Nat.le_refl _)
  have f12 := qGx_t f1 f2
  have h1lt := hb1.2.2.2.1 t10 t16
  have h1le := hb1.1
  have h1n := hb1.2.2.1
  obtain ⟨r, x3, r3⟩ := x_sBh (B := B) (N := N) hS hN hb1 P2.1.1 k2 t10 t16
  have hj := qrt_le B (qT B n p1)
  have eqj : ∀ c, c < 99 → (qxi (qrt B (qT B n p1)) 99 = Int32.ofNat c ↔ qrt B (qT B n p1) = c) := fun c hc => qxi_eq _ 99 c (by omega) hc hj
  have start : zX3_place N (Int32.ofNat o) σ = zX3_place_26 N (Int32.ofNat o) (qxi (qrt B (qT B n p1)) 99) σ2 := by
    unfold zX3_place
    rw [x1, fv_bv_rv, x2, fv_bi_ri]
    exact x_rsv hS hN P2.1.1 hp1 k2 (fun r s => zX3_place_26 N (Int32.ofNat o) r s)
  rw [start]
  unfold zX3_place_26
  rw [x3, fv_bi_ri]
  have s41 := r3 41 rfl rfl
  have s43 := r3 43 rfl rfl
  have s45 := r3 45 rfl rfl
  generalize hp2e : (qT B n p1).2.2.1 = p2 at s41 s43 s45 h1n
  have gw2 : ∀ a i, fv_gw σ2 a i = fv_gw σ a i := fun a i => by show σ2.2.2.1 a i = _; rw [f12.2]
  refine xOo_t (xFp_g f12) (qGx_n f12) (f12.1 1555 (by omega)) ?_
  have rd : ∀ (s : fv_S) (k : Nat) (v : Int32), fv_gw (fv_sa s k (Int32.ofNat o) v) k o = v := fun s k v => by
    have := s_ak s k (Int32.ofNat o) v
    rw [i2] at this; exact this
  -- an expression in ( )
  have e133 : xOo B n sec L h I org o G (5, 0, false, p1, qcl B n (qEX B n p1).2) σ2 (zX3_place_133 N (Int32.ofNat o) σ2) := by
    unfold zX3_place_133
    rw [if_pos i1]
    exact xOo_t (xFp_sa ho (xFp_r o σ2) 21 4 (by omega)) rfl rfl (xOo_v (N := N) hS hN (xP_a ho P2 21 4 (by omega)) ho false 5 0 (by omega) (rd _ _ _) (fun e => by omega))
  -- a name in ( )
  have e109 : ∀ j, qrt B (qT B n p1) = j → j < 99 → (qT B n p2).1 = 41 → xOo B n sec L h I org o G (2, qrt B (qT B n p1), false, 0, .inr (qT B n p2).2.2.1) σ2 (zX3_place_109 N (Int32.ofNat o) (qxi (qrt B (qT B n p1)) 99) σ2) := by
    intro j ej hj99 c41
    rw [(eqj j hj99).2 ej, ej]
    refine xOo_k (by omega) ?_
    unfold zX3_place_109
    rw [if_pos i1, if_pos i1]
    have P3 := xP_a ho (xP_a ho P2 21 2 (by omega)) 22 (Int32.ofNat j) (by omega)
    have k3 : qXt n (qT B n p1) (fv_sa (fv_sa σ2 21 (Int32.ofNat o) 2) 22 (Int32.ofNat o) (Int32.ofNat j)) := k2
    obtain ⟨σ4, x4, f4, a4, _⟩ := x_pass (B := B) hb1 k3 t10 t16
    have P4 := xP_g P3 f4 a4 (by omega)
    rw [hp2e] at P4
    rw [x4, fv_bv_rv]
    obtain ⟨σ5, x5, f5, P5⟩ := (x_149 (N := N) (o := o) hS hN P4).1 c41
    have fp := xFp_t (xFp_sa ho (xFp_sa ho (xFp_r o σ2) 21 2 (by omega)) 22 (Int32.ofNat j) (by omega)) (xFp_g (qGx_t f4 f5))
    have gw : ∀ a i, fv_gw σ5 a i = fv_gw (fv_sa (fv_sa σ2 21 (Int32.ofNat o) 2) 22 (Int32.ofNat o) (Int32.ofNat j)) a i := fun a i => by show σ5.2.2.1 a i = _; rw [(qGx_t f4 f5).2]
    refine ⟨σ5, x5, (qGx_n (qGx_t f4 f5)).trans rfl, fp, (qGx_t f4 f5).1 1555 (by omega), P5, ?_, fun _ _ => ?_, ?_, fun h4 => by omega⟩
    · rw [gw, s_an _ _ _ _ _ (by omega)]; exact rd _ _ _
    · rw [gw]; exact rd _ _ _
    · rw [gw, s_an _ _ _ _ _ (by omega), s_an _ _ _ _ _ (by omega), gw2, h23, decide_eq_false (by omega)]; rfl
  -- neither IX nor IY
  have e73 : ¬ ((qrt B (qT B n p1) = 90 ∨ qrt B (qT B n p1) = 91) ∧ ((qT B n p2).1 = 41 ∨ (qT B n p2).1 = 43 ∨ (qT B n p2).1 = 45)) → xOo B n sec L h I org o G (qOp B n p) σ2 (zX3_place_73 N (Int32.ofNat o) (qxi (qrt B (qT B n p1)) 99) r σ2) := by
    intro hc
    obtain ⟨Q1, Q2⟩ := qOp_2 hp1e hp2e ⟨h40, hw⟩ hc
    unfold zX3_place_73
    by_cases c41 : (qT B n p2).1 = 41
    · rw [if_neg (show ¬ ¬ r = 41 from not_not_intro (s41.2 c41))]
      by_cases c1 : qrt B (qT B n p1) = 88
      · rw [if_pos (show qxi (qrt B (qT B n p1)) 99 = 88 from (eqj 88 (by omega)).2 c1), Q1 ⟨c41, Or.inl c1⟩]; exact e109 88 c1 (by omega) c41
      rw [if_neg (show ¬ qxi (qrt B (qT B n p1)) 99 = 88 from fun e => c1 ((eqj 88 (by omega)).1 e))]
      by_cases c2 : qrt B (qT B n p1) = 86
      · rw [if_pos (show qxi (qrt B (qT B n p1)) 99 = 86 from (eqj 86 (by omega)).2 c2), Q1 ⟨c41, by omega⟩]; exact e109 86 c2 (by omega) c41
      rw [if_neg (show ¬ qxi (qrt B (qT B n p1)) 99 = 86 from fun e => c2 ((eqj 86 (by omega)).1 e))]
      by_cases c3 : qrt B (qT B n p1) = 87
      · rw [if_pos (show qxi (qrt B (qT B n p1)) 99 = 87 from (eqj 87 (by omega)).2 c3), Q1 ⟨c41, by omega⟩]; exact e109 87 c3 (by omega) c41
      rw [if_neg (show ¬ qxi (qrt B (qT B n p1)) 99 = 87 from fun e => c3 ((eqj 87 (by omega)).1 e))]
      by_cases c4 : qrt B (qT B n p1) = 89
      · rw [if_pos (show qxi (qrt B (qT B n p1)) 99 = 89 from (eqj 89 (by omega)).2 c4), Q1 ⟨c41, by omega⟩]; exact e109 89 c4 (by omega) c41
      rw [if_neg (show ¬ qxi (qrt B (qT B n p1)) 99 = 89 from fun e => c4 ((eqj 89 (by omega)).1 e))]
      by_cases c5 : qrt B (qT B n p1) = 77
      · rw [if_neg (show ¬ ¬ qxi (qrt B (qT B n p1)) 99 = 77 from not_not_intro ((eqj 77 (by omega)).2 c5)), Q1 ⟨c41, by omega⟩]; exact e109 77 c5 (by omega) c41
      rw [if_pos (show ¬ qxi (qrt B (qT B n p1)) 99 = 77 from fun e => c5 ((eqj 77 (by omega)).1 e)), Q2 (fun e => by omega)]; exact e133
    · rw [if_pos (show ¬ r = 41 from fun e => c41 (s41.1 e)), Q2 (fun e => c41 e.1)]; exact e133
  -- IX, IY
  have e65 : (qrt B (qT B n p1) = 90 ∨ qrt B (qT B n p1) = 91) → ((qT B n p2).1 = 41 ∨ (qT B n p2).1 = 43 ∨ (qT B n p2).1 = 45) → xOo B n sec L h I org o G (qOp B n p) σ2 (zX3_place_65 N (Int32.ofNat o) σ2) := by
    intro cj c4
    have hj99 : qrt B (qT B n p1) < 99 := by omega
    have t11 := qrt_lt rfl hj99
    obtain ⟨Q1, Q2⟩ := qOp_1 hp1e hp2e ⟨h40, hw⟩ cj
    have exj : qxi (qrt B (qT B n p1)) 99 = Int32.ofNat (qrt B (qT B n p1)) := if_pos hj99
    unfold zX3_place_65 zX3_indexed
    have P3 := xP_a ho P2 21 3 (by omega)
    have k3 : qXt n (qT B n p1) (fv_sa σ2 21 (Int32.ofNat o) 3) := k2
    have er : zX3_reserved N (fv_sa σ2 21 (Int32.ofNat o) 3) = fv_ri (Int32.ofNat (qrt B (qT B n p1))) (fv_sa σ2 21 (Int32.ofNat o) 3) := by
      rw [x_res hS hN hb1 P3.1.1 k3 t11, ← exj]; unfold qrt; rw [if_pos t11]
    rw [if_pos i1, er, fv_bi_ri, if_pos i1]
    have P4 := xP_a ho P3 22 (Int32.ofNat (qrt B (qT B n p1))) (by omega)
    have k4 : qXt n (qT B n p1) (fv_sa (fv_sa σ2 21 (Int32.ofNat o) 3) 22 (Int32.ofNat o) (Int32.ofNat (qrt B (qT B n p1)))) := k2
    obtain ⟨σ5, x5, f5, a5, _⟩ := x_pass (B := B) hb1 k4 t10 t16
    have P5 := xP_g P4 f5 a5 (by omega)
    rw [hp2e] at P5 a5
    rw [x5, fv_bv_rv]
    obtain ⟨σ6, x6, f6, k6⟩ := x_look (N := N) hS hN P5.1.1 P5.2.1
    have hp2 := a5.1
    have hb2 := qT_b hS p2 hp2
    have P6 := xP_g P5 f6 (xAt_of hp2 k6) (Nat.le_refl _)
    have f56 := qGx_t f5 f6
    have gw6 : ∀ a i, fv_gw σ6 a i = fv_gw (fv_sa (fv_sa σ2 21 (Int32.ofNat o) 3) 22 (Int32.ofNat o) (Int32.ofNat (qrt B (qT B n p1)))) a i := fun a i => by show σ6.2.2.1 a i = _; rw [f56.2]
    have g21 : fv_gw σ6 21 o = 3 := by rw [gw6, s_an _ _ _ _ _ (by omega)]; exact rd _ _ _
    have g22 : fv_gw σ6 22 o = Int32.ofNat (qrt B (qT B n p1)) := by rw [gw6]; exact rd _ _ _
    have g23 : fv_gw σ6 23 o = 0 := by rw [gw6, s_an _ _ _ _ _ (by omega), s_an _ _ _ _ _ (by omega), gw2, h23]
    have fp6 : xFp o σ2 σ6 := xFp_t (xFp_sa ho (xFp_sa ho (xFp_r o σ2) 21 3 (by omega)) 22 _ (by omega)) (xFp_g f56)
    have n6 : fv_n σ6 = fv_n σ2 := (qGx_n f56).trans rfl
    have h56 : fv_gi σ6 1555 = fv_gi σ2 1555 := f56.1 1555 (by omega)
    rw [x6, fv_bi_ri]
    have ek := fun c (h0 : c ≠ 0) (h10 : c ≠ 10) (hc : c < 256) => qxk_ne hb2 c h0 h10 hc
    refine xOo_t fp6 n6 h56 ?_
    by_cases c41 : (qT B n p2).1 = 41
    · rw [if_neg (show ¬ ¬ qxk n (qT B n p2) = 41 from not_not_intro ((ek 41 (by omega) (by omega) (by omega)).2 c41)), fv_bv_rv, Q1 c41]
      obtain ⟨σ7, x7, f7, P7⟩ := (x_149 (N := N) (o := o) hS hN P6).1 c41
      have gw7 : ∀ a i, fv_gw σ7 a i = fv_gw σ6 a i := fun a i => by show σ7.2.2.1 a i = _; rw [f7.2]
      refine xOo_k (by omega) ⟨σ7, x7, qGx_n f7, xFp_g f7, f7.1 1555 (by omega), P7, ?_, fun _ _ => ?_, ?_, fun h4 => by omega⟩
      · rw [gw7, g21]; rfl
      · rw [gw7, g22]
      · rw [gw7, g23, decide_eq_false (by omega)]; rfl
    · rw [if_pos (show ¬ qxk n (qT B n p2) = 41 from fun e => c41 ((ek 41 (by omega) (by omega) (by omega)).1 e)), Q2 (by omega)]
      obtain ⟨σ7, x7, f7, a7, _⟩ := x_pass (B := B) hb2 k6 (by omega) (by omega)
      have P7 := xP_g P6 f7 a7 (by have := hb2.1; have := hb2.2.2.2.1 (by omega) (by omega); omega)
      have gw7 : ∀ a i, fv_gw σ7 a i = fv_gw σ6 a i := fun a i => by show σ7.2.2.1 a i = _; rw [f7.2]
      rw [x7, fv_bv_rv]
      refine xOo_t (xFp_g f7) (qGx_n f7) (f7.1 1555 (by omega)) ?_
      have V := xOo_v (N := N) hS hN P7 ho (decide ((qT B n p2).1 = 45)) 4 (qrt B (qT B n p1)) (by omega) (by rw [gw7, g21]; rfl) (fun _ => by rw [gw7, g22])
      have esh : fv_bv (fv_bi (zX3_exp N σ7) (fun r11 σ10 => if ¬ qxk n (qT B n p2) = 45 then zX3_indexed_65 N (Int32.ofNat o) r11 σ10 else zX3_indexed_65 N (Int32.ofNat o) (-r11) σ10) fv_th) (fun σ2 => zX3_place_149 N σ2) fv_th = fv_bi (zX3_exp N σ7) (fun r σ7 => fv_bv (zX3_value (Int32.ofNat o) (if (decide ((qT B n p2).1 = 45)) = true then -r else r) σ7) (fun σ9 => zX3_place_149 N σ9) fv_no) fv_th := by
        have e45 := ek 45 (by omega) (by omega) (by omega)
        have inner : ∀ (w : Int32) (s : fv_S), fv_bv (zX3_indexed_65 N (Int32.ofNat o) w s) (fun σ2 => zX3_place_149 N σ2) fv_th = fv_bv (zX3_value (Int32.ofNat o) w s) (fun σ9 => zX3_place_149 N σ9) fv_no := by
          intro w s
          unfold zX3_indexed_65 zX3_value
          rw [if_pos i1, if_pos i1, if_pos i1, if_pos i1]; rfl
        generalize zX3_exp N σ7 = E
        match E with
        | none => rfl
        | some (.inr (a, b), s) => rfl
        | some (.inl none, s) => rfl
        | some (.inl (some (.inr x)), s) => rfl
        | some (.inl (some (.inl w)), s) =>
          show fv_bv (if ¬ qxk n (qT B n p2) = 45 then zX3_indexed_65 N (Int32.ofNat o) w s else zX3_indexed_65 N (Int32.ofNat o) (-w) s) _ _ = fv_bv (zX3_value (Int32.ofNat o) (if (decide ((qT B n p2).1 = 45)) = true then -w else w) s) _ _
          by_cases c45 : (qT B n p2).1 = 45
          · rw [if_neg (show ¬ ¬ qxk n (qT B n p2) = 45 from not_not_intro (e45.2 c45)), if_pos (decide_eq_true c45)]; exact inner _ _
          · rw [if_pos (show ¬ qxk n (qT B n p2) = 45 from fun e => c45 (e45.1 e)), if_neg (by simp [c45])]; exact inner _ _
      rw [esh]
      exact V
  have e47 : (qrt B (qT B n p1) = 90 ∨ qrt B (qT B n p1) = 91) → xOo B n sec L h I org o G (qOp B n p) σ2 (zX3_place_47 N (Int32.ofNat o) (qxi (qrt B (qT B n p1)) 99) r σ2) := by
    intro cj
    unfold zX3_place_47
    by_cases c1 : (qT B n p2).1 = 41
    · rw [if_pos (show r = 41 from s41.2 c1)]; exact e65 cj (Or.inl c1)
    rw [if_neg (show ¬ r = 41 from fun e => c1 (s41.1 e))]
    by_cases c2 : (qT B n p2).1 = 43
    · rw [if_pos (show r = 43 from s43.2 c2)]; exact e65 cj (Or.inr (Or.inl c2))
    rw [if_neg (show ¬ r = 43 from fun e => c2 (s43.1 e))]
    by_cases c3 : (qT B n p2).1 = 45
    · rw [if_neg (show ¬ ¬ r = 45 from not_not_intro (s45.2 c3))]; exact e65 cj (Or.inr (Or.inr c3))
    · rw [if_pos (show ¬ r = 45 from fun e => c3 (s45.1 e))]; exact e73 (fun e => by omega)
  by_cases c90 : qrt B (qT B n p1) = 90
  · rw [if_pos (show qxi (qrt B (qT B n p1)) 99 = 90 from (eqj 90 (by omega)).2 c90)]; exact e47 (Or.inl c90)
  rw [if_neg (show ¬ qxi (qrt B (qT B n p1)) 99 = 90 from fun e => c90 ((eqj 90 (by omega)).1 e))]
  by_cases c91 : qrt B (qT B n p1) = 91
  · rw [if_neg (show ¬ ¬ qxi (qrt B (qT B n p1)) 99 = 91 from not_not_intro ((eqj 91 (by omega)).2 c91))]; exact e47 (Or.inr c91)
  · rw [if_pos (show ¬ qxi (qrt B (qT B n p1)) 99 = 91 from fun e => c91 ((eqj 91 (by omega)).1 e))]; exact e73 (fun e => by omega)
