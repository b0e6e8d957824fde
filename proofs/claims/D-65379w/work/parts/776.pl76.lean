set_option maxRecDepth 100000
set_option maxHeartbeats 4000000
/-! The plain law: operands, as they are read; the class reads one. -/
/-- behind an expression in ( ) -/
def qcl (B : Nat → Nat) (n : Nat) (o : qOu) : qOu := match o with
  | .inl f => .inl f
  | .inr p' => if (qT B n p').1 = 41 then .inr (qT B n p').2.2.1 else .inl (qwr (qT B n p'), (qT B n p').2.1)
/-- which reserved name a token is -/
def qrt (B : Nat → Nat) (t : qTok) : Nat := if t.1 = 1 then qri (qna B t) else 99
/-- an operand: its sort (1 a name, 2 a name in ( ), 3 and 4 IX, IY without and with a number, 5 a number in ( ), 6 a number), the name, whether it is turned, where the number begins, the outcome -/
noncomputable def qOp (B : Nat → Nat) (n p : Nat) : Nat × Nat × Bool × Nat × qOu :=
  if (qT B n p).1 = 40 ∧ qWo B n p = true then
    (if (qrt B (qT B n (qT B n p).2.2.1) = 90 ∨ qrt B (qT B n (qT B n p).2.2.1) = 91) ∧ ((qT B n (qT B n (qT B n p).2.2.1).2.2.1).1 = 41 ∨ (qT B n (qT B n (qT B n p).2.2.1).2.2.1).1 = 43 ∨ (qT B n (qT B n (qT B n p).2.2.1).2.2.1).1 = 45) then
      (if (qT B n (qT B n (qT B n p).2.2.1).2.2.1).1 = 41 then (3, qrt B (qT B n (qT B n p).2.2.1), false, 0, .inr (qT B n (qT B n (qT B n p).2.2.1).2.2.1).2.2.1)
      else (4, qrt B (qT B n (qT B n p).2.2.1), decide ((qT B n (qT B n (qT B n p).2.2.1).2.2.1).1 = 45), (qT B n (qT B n (qT B n p).2.2.1).2.2.1).2.2.1, qcl B n (qEX B n (qT B n (qT B n (qT B n p).2.2.1).2.2.1).2.2.1).2))
    else if (qT B n (qT B n (qT B n p).2.2.1).2.2.1).1 = 41 ∧ (qrt B (qT B n (qT B n p).2.2.1) = 88 ∨ qrt B (qT B n (qT B n p).2.2.1) = 86 ∨ qrt B (qT B n (qT B n p).2.2.1) = 87 ∨ qrt B (qT B n (qT B n p).2.2.1) = 89 ∨ qrt B (qT B n (qT B n p).2.2.1) = 77) then (2, qrt B (qT B n (qT B n p).2.2.1), false, 0, .inr (qT B n (qT B n (qT B n p).2.2.1).2.2.1).2.2.1)
    else (5, 0, false, (qT B n p).2.2.1, qcl B n (qEX B n (qT B n p).2.2.1).2))
  else if 75 ≤ qrt B (qT B n p) ∧ qrt B (qT B n p) < 99 ∧ ((qT B n (qT B n p).2.2.1).1 = 0 ∨ (qT B n (qT B n p).2.2.1).1 = 44) then (1, qrt B (qT B n p), false, 0, .inr (qT B n p).2.2.1)
  else (6, 0, false, p, (qEX B n p).2)
theorem qWo_t {B : Nat → Nat} {n p : Nat} (h : (qT B n p).1 = 40) (w : qWo B n p = true) : (qT B n (qT B n p).2.2.1).1 ≠ 0 ∧ (qT B n (qT B n p).2.2.1).1 ≠ 6 := by
  have e : qWo B n p = qWh B n 6000 1 (qT B n p).2.2.1 := by
    unfold qWo
    show (if (qT B n p).1 = 0 ∨ (qT B n p).1 = 6 then false else if (qT B n p).1 = 41 ∧ 0 = 1 then _ else qWh B n 6000 (if (qT B n p).1 = 40 then 0 + 1 else _) (qT B n p).2.2.1) = _
    rw [if_neg (by omega), if_neg (by omega), if_pos h]
  rw [e] at w
  have w : (if (qT B n (qT B n p).2.2.1).1 = 0 ∨ (qT B n (qT B n p).2.2.1).1 = 6 then false else _) = true := w
  by_cases c : (qT B n (qT B n p).2.2.1).1 = 0 ∨ (qT B n (qT B n p).2.2.1).1 = 6
  · rw [if_pos c] at w; exact absurd w (by decide)
  · exact ⟨fun e => c (Or.inl e), fun e => c (Or.inr e)⟩
/-- what an operand leaves alone -/
def xFp (o : Nat) (σ σ' : fv_S) : Prop := (∀ k, k ≠ 1555 → k ≠ 1560 → k ≠ 1561 → k ≠ 1562 → k ≠ 1563 → k ≠ 1564 → (k < 1667 ∨ 1672 < k) → fv_gi σ' k = fv_gi σ k) ∧ σ'.2.1 = σ.2.1 ∧ (∀ a, a < 21 ∨ 26 < a → fv_gw σ' a = fv_gw σ a) ∧ (∀ a i, i ≠ o → fv_gw σ' a i = fv_gw σ a i)
theorem xFp_r (o : Nat) (σ : fv_S) : xFp o σ σ := ⟨fun _ _ _ _ _ _ _ _ => rfl, rfl, fun _ _ => rfl, fun _ _ _ => rfl⟩
theorem xFp_t {o : Nat} {a b c : fv_S} (h : xFp o a b) (g : xFp o b c) : xFp o a c := ⟨fun k h1 h2 h3 h4 h5 h6 h7 => (g.1 k h1 h2 h3 h4 h5 h6 h7).trans (h.1 k h1 h2 h3 h4 h5 h6 h7), g.2.1.trans h.2.1, fun k hk => (g.2.2.1 k hk).trans (h.2.2.1 k hk), fun k i hi => (g.2.2.2 k i hi).trans (h.2.2.2 k i hi)⟩
theorem xFp_x {o : Nat} {a b : fv_S} (h : xFx a b) : xFp o a b := ⟨fun k _ h2 h3 h4 h5 h6 h7 => h.1 k h2 h3 h4 h5 h6 h7, h.2.1, fun k _ => by show b.2.2.1 k = _; rw [h.2.2], fun k i _ => by show b.2.2.1 k i = _; rw [h.2.2]⟩
theorem xFp_g {o : Nat} {a b : fv_S} (h : qGx a b) : xFp o a b := xFp_x (xFx_g h)
theorem xFp_sa {o : Nat} (ho : o < 2) {a b : fv_S} (h : xFp o a b) (k : Nat) (v : Int32) (hk : 21 ≤ k ∧ k ≤ 26) : xFp o a (fv_sa b k (Int32.ofNat o) v) := by
  have e := p_clN o (by omega)
  refine ⟨h.1, h.2.1, fun x hx => (s_an _ _ _ _ _ (by omega)).trans (h.2.2.1 x hx), fun x i hi => ?_⟩
  by_cases c : x = k
  · subst c; rw [s_ai _ _ _ _ _ (by rw [e]; exact hi)]; exact h.2.2.2 x i hi
  · rw [s_an _ _ _ _ _ c]; exact h.2.2.2 x i hi
theorem xFo_p {o : Nat} {a b : fv_S} (h : xFp o a b) : xFo a b := ⟨fun k h1 h2 h3 => h.1 k (by omega) (by omega) (by omega) (by omega) (by omega) (by omega) h2, ⟨h.2.1, xB17_e (h.2.2.1 17 (by omega))⟩, fun x hx => h.2.2.1 x (by omega)⟩
theorem xMs_p {o : Nat} {a b : fv_S} (h : xFp o a b) : xMs a b := ⟨h.2.2.1 20 (by omega), h.1 _ (by omega) (by omega) (by omega) (by omega) (by omega) (by omega) (by omega), h.1 _ (by omega) (by omega) (by omega) (by omega) (by omega) (by omega) (by omega), h.1 _ (by omega) (by omega) (by omega) (by omega) (by omega) (by omega) (by omega)⟩
theorem xZ_p {o : Nat} {B : Nat → Nat} {n : Nat} {sec : Bool} {L : List (List Nat × Int32)} {h : Nat} {I : List (Bool × Bool)} {org : Nat} {σ σ' : fv_S} (z : xZ B n sec L h I org σ) (f : xFp o σ σ') (h2 : fv_gi σ' 1562 = 0) : xZ B n sec L h I org σ' := by
  obtain ⟨z1, z2, z3, z4, z5, z6, z7, z8, z9⟩ := z
  have g : ∀ k, k = 1541 ∨ k = 1542 ∨ k = 1543 ∨ k = 1565 ∨ k = 1559 ∨ k = 1665 ∨ k = 2051 → fv_gi σ' k = fv_gi σ k := fun k hk => f.1 k (by omega) (by omega) (by omega) (by omega) (by omega) (by omega) (by omega)
  have gw := f.2.2.1
  exact ⟨⟨(g 1665 (by omega)).trans z1.1, by rw [gw 14 (by omega), gw 15 (by omega)]; exact z1.2⟩, ⟨(g 2051 (by omega)).trans z2.1, z2.2.1, by rw [gw 17 (by omega), gw 18 (by omega), gw 19 (by omega)]; exact z2.2.2⟩, (g _ (by omega)).trans z3, xQ4_c z4 (g _ (by omega)) (fun _ => ⟨f.1 1546 (by omega) (by omega) (by omega) (by omega) (by omega) (by omega) (by omega), f.1 1547 (by omega) (by omega) (by omega) (by omega) (by omega) (by omega) (by omega)⟩), (g _ (by omega)).trans z5, (g _ (by omega)).trans z6, h2, (g _ (by omega)).trans z8, xIf_c I σ σ' (fun i _ => by rw [gw 27 (by omega), gw 28 (by omega), gw 29 (by omega)]; exact ⟨rfl, rfl, rfl⟩) z9⟩
/-- a number is kept -/
theorem x_val {o : Nat} (ho : o < 2) (w : Int32) {σ : fv_S} (h0 : fv_gi σ 1560 = 0 ∨ fv_gi σ 1560 = 1) : ∃ σ', zX3_value (Int32.ofNat o) w σ = fv_rv σ' ∧ xFp o σ σ' ∧ fv_n σ' = fv_n σ ∧ (∀ k, fv_gi σ' k = fv_gi σ k) ∧ fv_gw σ' 21 o = fv_gw σ 21 o ∧ fv_gw σ' 22 o = fv_gw σ 22 o ∧ fv_gw σ' 23 o = 1 ∧ fv_gw σ' 24 o = fv_gi σ 1560 ∧ fv_gw σ' 25 o = w ∧ fv_gw σ' 26 o = fv_gi σ 1561 := by
  obtain ⟨i1, i2⟩ := p_inN o 2 ho (by omega)
  have n1 : vp_nar .boolean 1 = 1 := by decide +kernel
  have n2 : vp_nar .boolean (fv_gi σ 1560) = fv_gi σ 1560 := by rcases h0 with h | h <;> rw [h] <;> decide +kernel
  unfold zX3_value
  rw [if_pos i1, if_pos i1, if_pos i1, if_pos i1, n1, n2]
  have rd : ∀ (s : fv_S) (k : Nat) (v : Int32), fv_gw (fv_sa s k (Int32.ofNat o) v) k o = v := fun s k v => by
    have := s_ak s k (Int32.ofNat o) v
    rw [i2] at this; exact this
  refine ⟨_, rfl, xFp_sa ho (xFp_sa ho (xFp_sa ho (xFp_sa ho (xFp_r o σ) 23 _ (by omega)) 24 _ (by omega)) 25 _ (by omega)) 26 _ (by omega), rfl, fun _ => rfl, ?_, ?_, ?_, ?_, ?_, ?_⟩
  · rw [s_an _ _ _ _ _ (by omega), s_an _ _ _ _ _ (by omega), s_an _ _ _ _ _ (by omega), s_an _ _ _ _ _ (by omega)]
  · rw [s_an _ _ _ _ _ (by omega), s_an _ _ _ _ _ (by omega), s_an _ _ _ _ _ (by omega), s_an _ _ _ _ _ (by omega)]
  · rw [s_an _ _ _ _ _ (by omega), s_an _ _ _ _ _ (by omega), s_an _ _ _ _ _ (by omega)]; exact rd _ _ _
  · rw [s_an _ _ _ _ _ (by omega), s_an _ _ _ _ _ (by omega)]; exact rd _ _ _
  · rw [s_an _ _ _ _ _ (by omega)]; exact rd _ _ _
  · exact rd _ _ _
def qsr (c : Nat) : Nat := if c ≤ 3 then c else c - 1
/-- the class holds an operand -/
def xOd (B : Nat → Nat) (n : Nat) (sec : Bool) (L : List (List Nat × Int32)) (org o c j : Nat) (neg : Bool) (pe : Nat) (σ : fv_S) : Prop := fv_gw σ 21 o = Int32.ofNat (qsr c) ∧ (1 ≤ c → c ≤ 4 → fv_gw σ 22 o = Int32.ofNat j) ∧ fv_gw σ 23 o = q01 (decide (4 ≤ c)) ∧ (4 ≤ c → fv_gw σ 26 o = Int32.ofNat (qT B n pe).2.1 ∧ (sec = true → (fv_gw σ 24 o = 0 ↔ ((qEX B n pe).1 (qen L org)).1 ≠ none)) ∧ (sec = true → ((qEX B n pe).1 (qen L org)).1 = none → fv_gw σ 25 o = if neg = true then - ((qEX B n pe).1 (qen L org)).2 else ((qEX B n pe).1 (qen L org)).2))
/-- where the class stands among operands -/
def xP (B : Nat → Nat) (n : Nat) (sec : Bool) (L : List (List Nat × Int32)) (h : Nat) (I : List (Bool × Bool)) (org : Nat) (G : Option (Nat × Nat)) (p : Nat) (σ : fv_S) : Prop := xZ B n sec L h I org σ ∧ xAt B n p σ ∧ xR G σ ∧ (∀ f, G = some f → f.2 < p)
theorem xP_g {B : Nat → Nat} {n : Nat} {sec : Bool} {L : List (List Nat × Int32)} {h : Nat} {I : List (Bool × Bool)} {org : Nat} {G : Option (Nat × Nat)} {p p' : Nat} {σ σ' : fv_S} (P : xP B n sec L h I org G p σ) (f : qGx σ σ') (a : xAt B n p' σ') (hp : p ≤ p') : xP B n sec L h I org G p' σ' := ⟨xZ_g P.1 f, a, xR_c P.2.2.1 (f.1 1563 (by omega)) (f.1 1564 (by omega)), fun g hg => by have := P.2.2.2 g hg; omega⟩
theorem xP_a {o : Nat} (ho : o < 2) {B : Nat → Nat} {n : Nat} {sec : Bool} {L : List (List Nat × Int32)} {h : Nat} {I : List (Bool × Bool)} {org : Nat} {G : Option (Nat × Nat)} {p : Nat} {σ : fv_S} (P : xP B n sec L h I org G p σ) (k : Nat) (v : Int32) (hk : 21 ≤ k ∧ k ≤ 26) : xP B n sec L h I org G p (fv_sa σ k (Int32.ofNat o) v) :=
  ⟨xZ_p P.1 (xFp_sa ho (xFp_r o σ) k v hk) P.1.2.2.2.2.2.2.1, xAt_c P.2.1 (fun _ _ _ => rfl), xR_c P.2.2.1 rfl rfl, P.2.2.2⟩
/-- an expression of an operand -/
theorem x_oex {B : Nat → Nat} {n N p : Nat} (hS : qS B n) (hN : 7000 ≤ N) {sec : Bool} {L : List (List Nat × Int32)} {h : Nat} {I : List (Bool × Bool)} {org : Nat} {G : Option (Nat × Nat)} {σ : fv_S} (P : xP B n sec L h I org G p σ) {o : Nat} (ho : o < 2) (neg : Bool) (C : fv_S → Option fv_O) :
    (∀ f, (qEX B n p).2 = .inl f → ∃ σ', fv_bi (zX3_exp N σ) (fun r σ7 => fv_bv (zX3_value (Int32.ofNat o) (if neg = true then -r else r) σ7) C fv_no) fv_th = fv_th (Int32.ofNat f.1) (Int32.ofNat f.2) σ' ∧ fv_n σ' = fv_n σ + 1 ∧ xFp o σ σ' ∧ (1 ≤ f.1 ∧ f.1 ≤ 9 ∧ f.2 ≤ 6000) ∧ xR (qoe G (if sec = true then ((qEX B n p).1 (qen L org)).1 else none)) σ' ∧ (∀ g, qoe G (if sec = true then ((qEX B n p).1 (qen L org)).1 else none) = some g → g.2 < f.2)) ∧
    (∀ p', (qEX B n p).2 = .inr p' → ∃ σ', fv_bi (zX3_exp N σ) (fun r σ7 => fv_bv (zX3_value (Int32.ofNat o) (if neg = true then -r else r) σ7) C fv_no) fv_th = C σ' ∧ fv_n σ' = fv_n σ ∧ xFp o σ σ' ∧ fv_gi σ' 1555 = fv_gi σ 1555 ∧ xP B n sec L h I org (qoe G (if sec = true then ((qEX B n p).1 (qen L org)).1 else none)) p' σ' ∧ fv_gw σ' 21 o = fv_gw σ 21 o ∧ fv_gw σ' 22 o = fv_gw σ 22 o ∧ fv_gw σ' 23 o = 1 ∧ fv_gw σ' 26 o = Int32.ofNat (qT B n p).2.1 ∧ (sec = true → (fv_gw σ' 24 o = 0 ↔ ((qEX B n p).1 (qen L org)).1 ≠ none)) ∧ (sec = true → ((qEX B n p).1 (qen L org)).1 = none → fv_gw σ' 25 o = if neg = true then - ((qEX B n p).1 (qen L org)).2 else ((qEX B n p).1 (qen L org)).2)) := by
  have hn := hS.1
  obtain ⟨z, ha, hR, hG⟩ := P
  have hp := ha.1
  have hI : xI B n L (sec = true) (qen L org) σ := ⟨z.1, z.2.1, rfl, z.2.2.2.2.2.1, by rw [z.2.2.1, z.2.2.2.1.1]; cases sec <;> decide⟩
  have b01 : ∀ (w : Int32) (σ' : fv_S), (qEX B n p).2 ≠ .inl (0, 0) → True := fun _ _ _ => trivial
  have R := x_ex (N := N) hS hN (K := sec) (L := L) (org := org) z.1 z.2.1 z.2.2.2.2.2.1 z.2.2.2.2.2.2.1 hI.2.2.2.2 ha hR hG
  have R0 := x_expr (N := N) hS hN (L := L) (K := sec = true) (e := qen L org) (r := G) (σ := σ) (p := p) ⟨hI, z.2.2.2.2.2.2.1, ha, hR⟩
  refine ⟨fun f hf => ?_, fun p' hp' => ?_⟩
  · rw [hf] at R
    obtain ⟨σ', y1, y2, y3, y4, y5, y6⟩ := R
    rw [y1, fv_bi_th]
    exact ⟨σ', rfl, y3, xFp_x y2, ⟨y4.1, by omega, by omega⟩, y5, y6⟩
  · rw [hp'] at R R0
    obtain ⟨w, σ1, y1, y2, y3, y4, y5, y6, y7, y8, y9⟩ := R
    obtain ⟨w0, σ0, u1, _, _, _, _, _, u7, _⟩ := R0
    have es : w0 = w ∧ σ0 = σ1 := by
      rw [y1] at u1
      have := Option.some.inj u1
      have h1 := congrArg Prod.snd this
      have h2 : (Sum.inl (some (Sum.inl w)) : fv_R ⊕ (Int32 × Int32)) = Sum.inl (some (Sum.inl w0)) := congrArg Prod.fst this
      exact ⟨(Sum.inl.inj (Option.some.inj (Sum.inl.inj h2))).symm, h1.symm⟩
    rw [es.2] at u7
    obtain ⟨σ2, x2, f2, n2, g2, a21, a22, a23, a24, a25, a26⟩ := x_val ho (if neg = true then -w else w) (xG_k u7)
    rw [y1, fv_bi_ri, x2, fv_bv_rv]
    have fp := xFp_t (xFp_x (o := o) y2) f2
    refine ⟨σ2, rfl, n2.trans y3, fp, (g2 1555).trans (y2.1 1555 (by omega) (by omega) (by omega) (by omega) (by omega) (by omega)), ⟨xZ_p z fp ((g2 1562).trans y4), xAt_c y6 (fun k _ _ => g2 k), xR_c y7 (g2 1563) (g2 1564), y8⟩, a21.trans (by show σ1.2.2.1 21 o = _; rw [y2.2.2]), a22.trans (by show σ1.2.2.1 22 o = _; rw [y2.2.2]), a23, a26.trans y5, fun hs => ?_, fun hs hg => ?_⟩
    · rw [a24]; exact (y9 hs).1
    · rw [a25, (y9 hs).2 hg]
