set_option maxRecDepth 100000
set_option maxHeartbeats 4000000
/-! The plain law: names are told; EQU in the class. -/
def qbd (L : List (List Nat × Int32)) (l : List Nat) : Bool := decide (qri l < 99 ∨ qlf l L < L.length ∨ L.length = 200)
theorem xZ_l {B : Nat → Nat} {n : Nat} {sec : Bool} {L L' : List (List Nat × Int32)} {h : Nat} {I : List (Bool × Bool)} {org : Nat} {σ σ' : fv_S} (z : xZ B n sec L h I org σ) (f : xFl σ σ') (hL : xL L' σ') : xZ B n sec L' h I org σ' := by
  obtain ⟨z1, z2, z3, z4, z5, z6, z7, z8, z9⟩ := z
  refine ⟨⟨(f.1 1665 (by omega)).trans z1.1, by rw [f.2.2.1 14 (by omega) (by omega) (by omega), f.2.2.1 15 (by omega) (by omega) (by omega)]; exact z1.2⟩, hL, (f.1 _ (by omega)).trans z3, xQ4_c z4 (f.1 _ (by omega)) (fun _ => ⟨f.1 _ (by omega), f.1 _ (by omega)⟩), (f.1 _ (by omega)).trans z5, (f.1 _ (by omega)).trans z6, (f.1 _ (by omega)).trans z7, (f.1 _ (by omega)).trans z8, xIf_c I σ σ' (fun i _ => by rw [f.2.2.1 27 (by omega) (by omega) (by omega), f.2.2.1 28 (by omega) (by omega) (by omega), f.2.2.1 29 (by omega) (by omega) (by omega)]; exact ⟨rfl, rfl, rfl⟩) z9⟩
theorem xMs_l {a b : fv_S} (f : xFl a b) : xMs a b := ⟨f.2.2.1 20 (by omega) (by omega) (by omega), f.1 _ (by omega), f.1 _ (by omega), f.1 _ (by omega)⟩
/-- a name that can't be told -/
theorem x_tlb {B : Nat → Nat} {n N q k : Nat} (hS : qS B n) (hN : 7000 ≤ N) {sec : Bool} {L : List (List Nat × Int32)} {h : Nat} {I : List (Bool × Bool)} {org : Nat} {σ : fv_S} (z : xZ B n sec L h I org σ) (hk : q + k ≤ n) (hk2 : k ≤ 12) (v : Int32) :
    (sec = true → zX3_tell N (Int32.ofNat q) (Int32.ofNat k) v σ = fv_rv σ) ∧
    (sec = false → qbd L (qnm B q k) = true → zX3_tell N (Int32.ofNat q) (Int32.ofNat k) v σ = fv_th (Int32.ofNat 3) (Int32.ofNat q) (fv_sc σ)) ∧
    (sec = false → qbd L (qnm B q k) = false → fv_gi σ 1563 = 0 → ∃ σ', zX3_tell N (Int32.ofNat q) (Int32.ofNat k) v σ = fv_rv σ' ∧ xZ B n sec (L ++ [(qnm B q k, v)]) h I org σ' ∧ xFl σ σ') ∧
    (sec = false → qbd L (qnm B q k) = false → ¬ fv_gi σ 1563 = 0 → zX3_tell N (Int32.ofNat q) (Int32.ofNat k) v σ = fv_rv σ) := by
  have hl := z.2.1.2.1
  have e1 : zX1_find N (Int32.ofNat q) (Int32.ofNat k) σ = _ := x_find hS hN hk z.1
  have e2 : zX5_find N (Int32.ofNat q) (Int32.ofNat k) σ = _ := x_lf hS hN hk z.1 z.2.1
  have e51 : fv_gi σ 2051 = Int32.ofNat L.length := z.2.1.1
  have no : qbd L (qnm B q k) = false → ¬ qri (qnm B q k) < 99 ∧ ¬ qlf (qnm B q k) L < L.length ∧ L.length ≠ 200 := fun hb => by
    have := of_decide_eq_false hb; exact ⟨fun h => this (Or.inl h), fun h => this (Or.inr (Or.inl h)), fun h => this (Or.inr (Or.inr h))⟩
  have go : sec = false → qbd L (qnm B q k) = false → zX3_tell N (Int32.ofNat q) (Int32.ofNat k) v σ = if ¬ fv_gi σ 1563 = 0 then fv_rv σ else fv_bv (zX5_add (Int32.ofNat q) (Int32.ofNat k) v σ) (fun σ9 => fv_rv σ9) fv_no := by
    intro hs hb
    obtain ⟨n1, n2, n3⟩ := no hb
    unfold zX3_tell
    rw [z.2.2.1, hs, if_pos (show q01 false = 0 by decide), e1, fv_bi_ri, if_neg (fun e => n1 ((qxi_nn _ _ (by omega)).1 e)), e2, fv_bi_ri, if_neg (fun e => n2 ((qxi_nn _ _ (by omega)).1 e)), e51, if_pos (show ¬ Int32.ofNat L.length = 200 from fun e => n3 ((p_eqN _ 200 (by omega) (by omega)).1 e))]
  refine ⟨fun hs => ?_, fun hs hb => ?_, fun hs hb h0 => ?_, fun hs hb h0 => ?_⟩
  · unfold zX3_tell
    rw [z.2.2.1, hs, if_neg (show ¬ q01 true = 0 by decide)]
  · unfold zX3_tell zX3_tell_59
    have hb := of_decide_eq_true hb
    rw [z.2.2.1, hs, if_pos (show q01 false = 0 by decide), e1, fv_bi_ri]
    by_cases c1 : qri (qnm B q k) < 99
    · rw [if_pos ((qxi_nn _ _ (by omega)).2 c1)]; rfl
    rw [if_neg (fun e => c1 ((qxi_nn _ _ (by omega)).1 e)), e2, fv_bi_ri]
    by_cases c2 : qlf (qnm B q k) L < L.length
    · rw [if_pos ((qxi_nn _ _ (by omega)).2 c2)]; rfl
    rw [if_neg (fun e => c2 ((qxi_nn _ _ (by omega)).1 e)), e51, if_neg (show ¬ ¬ Int32.ofNat L.length = 200 from not_not_intro (by rw [show L.length = 200 by omega]; rfl))]; rfl
  · obtain ⟨n1, n2, n3⟩ := no hb
    obtain ⟨σ', x, hL', f⟩ := x_addL hS hk hk2 z.1 z.2.1 (by omega) v
    rw [go hs hb, if_neg (not_not_intro h0), x, fv_bv_rv]
    exact ⟨σ', rfl, xZ_l z f hL', f⟩
  · rw [go hs hb, if_pos h0]
noncomputable def qEqG (B : Nat → Nat) (n p : Nat) (sec : Bool) (L : List (List Nat × Int32)) (org : Nat) (l : List Nat) : Option (Nat × Nat) := if sec = false ∧ qbd L l = true then none else ((qEX B n (qT B n p).2.2.1).1 (qen L org)).1
noncomputable def qEqO (B : Nat → Nat) (n p : Nat) (sec : Bool) (L : List (List Nat × Int32)) (l : List Nat) (q : Nat) : qOu := if sec = false ∧ qbd L l = true then .inl (3, q) else (qEX B n (qT B n p).2.2.1).2
noncomputable def qEqL (B : Nat → Nat) (n p : Nat) (sec : Bool) (L : List (List Nat × Int32)) (org : Nat) (l : List Nat) : List (List Nat × Int32) := if sec = true then L else L ++ [(l, ((qEX B n (qT B n p).2.2.1).1 (qen L org)).2)]
theorem x_equ0 {B : Nat → Nat} {n N p : Nat} (hS : qS B n) (hN : 7000 ≤ N) {σ : fv_S} (h : qX B n σ) (hp : p ≤ n) (a : fv_gi σ 1667 = Int32.ofNat p) (hq : qiq B n p = false) (x y : Int32) : zX3_isEqu N x y σ = fv_ri 0 σ := by
  unfold zX3_isEqu
  rw [x_beq hS hN h hp a, fv_bi_ri, hq, if_neg (show ¬ ¬ q01 false = 0 by decide)]
theorem x_equ {B : Nat → Nat} {n N p q k : Nat} (hS : qS B n) (hN : 7000 ≤ N) {sec : Bool} {L : List (List Nat × Int32)} {h : Nat} {I : List (Bool × Bool)} {org : Nat} {σ : fv_S} (z : xZ B n sec L h I org σ) (hp : p ≤ n) (a0 : fv_gi σ 1668 = 0) (a : fv_gi σ 1667 = Int32.ofNat p) (hR : xR none σ) (hh : h ≤ 65536) (hk : q + k ≤ n) (hk2 : k ≤ 12) (hq : qiq B n p = true) (C : fv_S → Option fv_O) :
    xSo B n (qEqG B n p sec L org (qnm B q k)) (qEqO B n p sec L (qnm B q k) q) (fun σ' => xZ B n sec (qEqL B n p sec L org (qnm B q k)) h I org σ' ∧ xMs σ σ') σ (fv_bi (zX3_isEqu N (Int32.ofNat q) (Int32.ofNat k) σ) (fun r12 σ11 => if r12 = 0 then C σ11 else fv_rv σ11) fv_th) := by
  have hn := hS.1
  have hl := z.2.1.2.1
  have hiq := of_decide_eq_true hq
  have hb := qT_b hS p hp
  have ha : xAt B n p σ := ⟨hp, Or.inl ⟨a0, a⟩⟩
  obtain ⟨σ1, x1, f1, k1⟩ := x_look hS hN z.1 ha
  have z1 := xZ_g z f1
  have r1 : xR none σ1 := xR_c hR (f1.1 1563 (by omega)) (f1.1 1564 (by omega))
  obtain ⟨σ2, x2, f2, a2, _⟩ := x_pass (B := B) hb k1 (by omega) (by omega)
  have z2 := xZ_g z1 f2
  have r2 : xR none σ2 := xR_c r1 (f2.1 1563 (by omega)) (f2.1 1564 (by omega))
  have f12 := qGx_t f1 f2
  have e1 : zX1_find N (Int32.ofNat q) (Int32.ofNat k) σ1 = _ := x_find hS hN hk z1.1
  have e2 : zX5_find N (Int32.ofNat q) (Int32.ofNat k) σ1 = _ := x_lf hS hN hk z1.1 z1.2.1
  have e51 : fv_gi σ1 2051 = Int32.ofNat L.length := z1.2.1.1
  have hd : zX3_isEqu N (Int32.ofNat q) (Int32.ofNat k) σ = if sec = false ∧ qbd L (qnm B q k) = true then fv_th (Int32.ofNat 3) (Int32.ofNat q) (fv_sc σ1) else zX3_isEqu_88 N (Int32.ofNat q) (Int32.ofNat k) σ1 := by
    unfold zX3_isEqu zX3_isEqu_78
    rw [x_beq hS hN z.1 hp a, fv_bi_ri, hq, if_pos (show ¬ q01 true = 0 by decide), x1, fv_bi_ri, z1.2.2.1]
    cases hs : sec with
    | true => rw [if_pos (show ¬ q01 true = 0 by decide), if_neg (fun e => absurd e.1 (by decide))]
    | false =>
      rw [if_neg (show ¬ ¬ q01 false = 0 by decide), e1, fv_bi_ri]
      by_cases c1 : qri (qnm B q k) < 99
      · rw [if_pos ((qxi_nn _ _ (by omega)).2 c1), if_pos ⟨rfl, decide_eq_true (Or.inl c1)⟩]; rfl
      rw [if_neg (fun e => c1 ((qxi_nn _ _ (by omega)).1 e)), e2, fv_bi_ri]
      by_cases c2 : qlf (qnm B q k) L < L.length
      · rw [if_pos ((qxi_nn _ _ (by omega)).2 c2), if_pos ⟨rfl, decide_eq_true (Or.inr (Or.inl c2))⟩]; rfl
      rw [if_neg (fun e => c2 ((qxi_nn _ _ (by omega)).1 e)), e51]
      by_cases c3 : L.length = 200
      · rw [if_neg (show ¬ ¬ Int32.ofNat L.length = 200 from not_not_intro (by rw [c3]; rfl)), if_pos ⟨rfl, decide_eq_true (Or.inr (Or.inr c3))⟩]; rfl
      · rw [if_pos (show ¬ Int32.ofNat L.length = 200 from fun e => c3 ((p_eqN _ 200 (by omega) (by omega)).1 e)), if_neg (fun e => by have := of_decide_eq_true e.2; omega)]
  unfold qEqG qEqO
  rw [hd]
  by_cases cb : sec = false ∧ qbd L (qnm B q k) = true
  · rw [if_pos cb, if_pos cb, if_pos cb, fv_bi_th]
    exact xSo_th (3, q) (qGx_n f1) (xFo_g f1) ⟨by show 1 ≤ 3; omega, by show 3 ≤ 9; omega, by show q ≤ 6000; omega⟩ r1
  · rw [if_neg cb, if_neg cb, if_neg cb]
    unfold zX3_isEqu_88
    rw [x2, fv_bv_rv]
    have R := x_kx hS hN z2 a2 r2 (-2147483648) 2147483647
    rw [qkg_all] at R
    unfold qEqL
    generalize ((qEX B n (qT B n p).2.2.1).1 (qen L org)).1 = g at R ⊢
    generalize ((qEX B n (qT B n p).2.2.1).1 (qen L org)).2 = v at R ⊢
    generalize (qEX B n (qT B n p).2.2.1).2 = o at R ⊢
    have fo := xFo_g f12
    have fn := qGx_n f12
    cases o with
    | inl f =>
      obtain ⟨σ', y1, y2, y3, y4, y5, y6⟩ := R
      rw [y1, fv_bi_th, fv_bi_th]
      exact ⟨σ', rfl, y3.trans (by rw [fn]), xFo_t fo y2, ⟨y4.1, by omega, by omega⟩, y5, fun g hg => qtm_lt (y6 g hg)⟩
    | inr p' =>
      obtain ⟨w, σ', y1, y2, y3, y4, y5, y6, y7, y8⟩ := R
      have z' := xZ_f z2 y2 y4
      have w48 : fv_gi σ' 1548 = fv_gi σ 1548 := (y2.1 1548 (by omega) (by omega) (by omega) (by omega) (by omega) (by omega)).trans (f12.1 1548 (by omega))
      obtain ⟨T1, T2, T3, T4⟩ := x_tlb hS hN z' hk hk2 w
      have same : zX3_tell N (Int32.ofNat q) (Int32.ofNat k) w σ' = fv_rv σ' → (g = none → sec = true) → xSo B n g (.inr p') (fun s => xZ B n sec (if sec = true then L else L ++ [(qnm B q k, v)]) h I org s ∧ xMs σ s) σ (fv_bi (fv_bi (zX3_knownExp N (-2147483648) 2147483647 σ2) (fun r7 σ6 => fv_bv (zX3_tell N (Int32.ofNat q) (Int32.ofNat k) r7 σ6) (fun σ8 => fv_ri 1 σ8) fv_th) fv_th) (fun r12 σ11 => if r12 = 0 then C σ11 else fv_rv σ11) fv_th) := by
        intro ht hs
        rw [y1, fv_bi_ri, ht, fv_bv_rv, fv_bi_ri, if_neg (show ¬ (1 : Int32) = 0 by decide)]
        refine ⟨σ', rfl, y3.trans fn, xFo_t fo (xFo_x y2), w48, z'.1, y5, y6, y7, fun hG => ⟨by rw [if_pos (hs hG)]; exact z', xMs_t (xMs_g f12) (xMs_x y2)⟩, fun _ => ?_⟩
        rw [z'.2.2.2.2.1]; exact (p_leN h 65536 (by omega) (by omega)).2 hh
      by_cases hst : sec = true
      · exact same (T1 hst) (fun _ => hst)
      · have hs : sec = false := by
          cases hx : sec
          · rfl
          · exact absurd hx hst
        have hb0 : qbd L (qnm B q k) = false := by
          cases hh : qbd L (qnm B q k) with
          | false => rfl
          | true => exact absurd ⟨hs, hh⟩ cb
        cases hg : g with
        | some f =>
          rw [← hg]
          refine same (T4 hs hb0 ?_) (fun h => by rw [hg] at h; exact absurd h (by simp))
          rw [hg] at y6
          rw [y6.1]; exact fun e => by have := (p_eqN f.1 0 (by have := y6.2.2.2; omega) (by omega)).1 e; have := y6.2.2.1; omega
        | none =>
          rw [hg] at y6 y8
          obtain ⟨σ3, x3, z3, f3⟩ := T3 hs hb0 y6
          rw [y1, fv_bi_ri, x3, fv_bv_rv, fv_bi_ri, if_neg (show ¬ (1 : Int32) = 0 by decide)]
          refine ⟨σ3, rfl, f3.2.2.2.trans (y3.trans fn), xFo_l (xFo_t fo (xFo_x y2)) f3, (f3.1 1548 (by omega)).trans w48, z3.1, xAt_c y5 (fun k _ _ => f3.1 k (by omega)), xR_c y6 (f3.1 1563 (by omega)) (f3.1 1564 (by omega)), fun f hf => absurd hf (by simp), fun _ => ⟨?_, xMs_t (xMs_t (xMs_g f12) (xMs_x y2)) (xMs_l f3)⟩, fun h => absurd rfl h⟩
          rw [if_neg hst, ← y8 rfl]; exact z3
