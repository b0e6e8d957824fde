set_option maxRecDepth 100000
set_option maxHeartbeats 4000000
/-! The plain law: the class ends a line. -/
/-- a line behind its statement: F is its fault -/
def xLo (B : Nat → Nat) (n : Nat) (F : Option (Nat × Nat)) (o : qOu) (post : fv_S → Prop) (σ : fv_S) (out : Option fv_O) : Prop := match F with
  | none => ∃ p' σ', o = .inr p' ∧ (qT B n p').1 = 0 ∧ p' ≤ n ∧ out = fv_rv σ' ∧ fv_n σ' = fv_n σ ∧ xFo σ σ' ∧ qX B n σ' ∧ qXt n (qT B n p') σ' ∧ xR none σ' ∧ post σ'
  | some f => (∃ σ', out = fv_rv σ' ∧ fv_n σ' = fv_n σ ∧ xFo σ σ' ∧ xR (some f) σ') ∨ (∃ f' r σ', out = fv_th (Int32.ofNat f'.1) (Int32.ofNat f'.2) σ' ∧ fv_n σ' = fv_n σ + 1 ∧ xFo σ σ' ∧ (1 ≤ f'.1 ∧ f'.1 ≤ 9 ∧ f'.2 ≤ 6000) ∧ xR r σ' ∧ qtm r f' = some f)
theorem xLo_t {B : Nat → Nat} {n : Nat} {F : Option (Nat × Nat)} {o : qOu} {post : fv_S → Prop} {σ0 σ : fv_S} {out : Option fv_O} (f : xFo σ0 σ) (fn : fv_n σ = fv_n σ0) (h : xLo B n F o post σ out) : xLo B n F o post σ0 out := by
  cases F with
  | none => obtain ⟨p', σ', a, b, c, d, e, g, k⟩ := h; exact ⟨p', σ', a, b, c, d, e.trans fn, xFo_t f g, k⟩
  | some g =>
    rcases h with ⟨σ', a, b, c, d⟩ | ⟨f', r, σ', a, b, c, d⟩
    · exact Or.inl ⟨σ', a, b.trans fn, xFo_t f c, d⟩
    · exact Or.inr ⟨f', r, σ', a, b.trans (by rw [fn]), xFo_t f c, d⟩
/-- a fault before the statement -/
theorem xLo_th {B : Nat → Nat} {n : Nat} {o : qOu} {post : fv_S → Prop} {σ σ' : fv_S} (f : Nat × Nat) (h1 : fv_n σ' = fv_n σ) (h2 : xFo σ σ') (h3 : 1 ≤ f.1 ∧ f.1 ≤ 9 ∧ f.2 ≤ 6000) (h4 : xR none σ') : xLo B n (some f) o post σ (fv_th (Int32.ofNat f.1) (Int32.ofNat f.2) (fv_sc σ')) :=
  Or.inr ⟨f, none, fv_sc σ', rfl, by show fv_n σ' + 1 = _; rw [h1], xFo_sc h2, h3, h4, rfl⟩
theorem x_82 {B : Nat → Nat} {n N : Nat} (hS : qS B n) (hN : 7000 ≤ N) {G : Option (Nat × Nat)} {o : qOu} {post : fv_S → Prop} {h' q : Nat} {σ : fv_S} {stm : Option fv_O} (hst : ∀ s s' : fv_S, post s → qGx s s' → post s') (hh : ∀ s : fv_S, post s → fv_gi s 1543 = Int32.ofNat h') (h31 : h' < 2147483648) (hq : fv_gi σ 1548 = Int32.ofNat q) (hq6 : q ≤ 6000) (H : xSo B n G o post σ stm) :
    xLo B n (qLF B n G o h' q) o post σ (fv_bv stm (fun σ1 => fv_bi (zX4_isEnd N σ1) (fun r3 σ2 => if ¬ r3 = 0 then (if (fv_gi σ2 1543) ≤ 65536 then fv_rv σ2 else fv_bv (zX3_tellFault 8 (fv_gi σ2 1548) σ2) (fun σ4 => fv_rv σ4) fv_no) else fv_ba (zX4_wrong σ2) (fun r6 r7 σ5 => fv_th r6 r7 σ5) fv_no) fv_no) fv_th) := by
  have hn := hS.1
  cases o with
  | inl f =>
    obtain ⟨σ', y1, y2, y3, y4, y5, y6⟩ := H
    rw [y1, fv_bv_th]
    cases G with
    | none => exact Or.inr ⟨f, none, σ', rfl, y2, y3, y4, y5, rfl⟩
    | some g => exact Or.inr ⟨f, some g, σ', rfl, y2, y3, y4, y5, y6 g rfl⟩
  | inr p' =>
    obtain ⟨σ1, y1, y2, y3, y4, y5, y6, y7, y8, y9, y10⟩ := H
    have hp' := y6.1
    have hb := qT_b hS p' hp'
    obtain ⟨σ2, x2, f2, k2⟩ := x_end (N := N) hS hN y5 y6
    have fo := xFo_t y3 (xFo_g f2)
    have fn : fv_n σ2 = fv_n σ := (qGx_n f2).trans y2
    have r2 : xR G σ2 := xR_c y7 (f2.1 1563 (by omega)) (f2.1 1564 (by omega))
    have e43 : fv_gi σ2 1543 = fv_gi σ1 1543 := f2.1 1543 (by omega)
    have e48 : fv_gi σ2 1548 = Int32.ofNat q := (f2.1 1548 (by omega)).trans (y4.trans hq)
    rw [y1, fv_bv_rv, x2, fv_bi_ri]
    by_cases c0 : (qT B n p').1 = 0
    · rw [c0, if_pos (show ¬ q01 ((0 : Nat) == 0) = 0 by decide)]
      cases G with
      | some g =>
        rw [if_pos (by rw [e43]; exact y10 (by simp))]
        exact Or.inl ⟨σ2, rfl, fn, fo, r2⟩
      | none =>
        have po := y9 rfl
        have e43' := hh σ1 po
        show xLo B n (if (qT B n p').1 = 0 then (if 65536 < h' then some (8, q) else none) else _) _ _ _ _
        rw [if_pos c0]
        by_cases cl : h' ≤ 65536
        · rw [if_neg (by omega), if_pos (show fv_gi σ2 1543 ≤ 65536 by rw [e43, e43']; exact (p_leN h' 65536 h31 (by omega)).2 cl)]
          exact ⟨p', σ2, rfl, c0, hp', rfl, fn, fo, qX_f y5 f2, k2, r2, hst σ1 σ2 po f2⟩
        · rw [if_pos (by omega), if_neg (show ¬ fv_gi σ2 1543 ≤ 65536 by rw [e43, e43']; exact fun e => cl ((p_leN h' 65536 h31 (by omega)).1 e)), e48]
          obtain ⟨σ3, x3, r3, f3, f3'⟩ := x_tell r2 (8, q) (by show 1 ≤ 8; omega) (by show 8 ≤ 9; omega) hq6
          rw [show zX3_tellFault 8 (Int32.ofNat q) σ2 = _ from x3, fv_bv_rv]
          refine Or.inl ⟨σ3, rfl, (show fv_n σ3 = fv_n σ by show σ3.2.2.2 = _; rw [f3']; exact fn), xFo_t fo ⟨fun k h1 h2 h3 => f3 k (by omega) (by omega), ⟨by rw [f3'], xB17_e (by show σ3.2.2.1 17 = _; rw [f3'])⟩, fun a _ => by show σ3.2.2.1 a = _; rw [f3']⟩, r3⟩
    · rw [show ((qT B n p').1 == 0) = false by simp [c0], if_neg (show ¬ ¬ q01 false = 0 by decide), x_wrong hb k2, fv_ba_ra]
      have wr : 1 ≤ qwr (qT B n p') ∧ qwr (qT B n p') ≤ 2 := by unfold qwr; split <;> omega
      cases G with
      | none =>
        show xLo B n (if (qT B n p').1 = 0 then _ else some (qwr (qT B n p'), (qT B n p').2.1)) _ _ _ _
        rw [if_neg c0]
        exact xLo_th (qwr (qT B n p'), (qT B n p').2.1) fn fo ⟨wr.1, by show qwr (qT B n p') ≤ 9; omega, by show (qT B n p').2.1 ≤ 6000; have := hb.2.1; omega⟩ r2
      | some g =>
        refine Or.inr ⟨(qwr (qT B n p'), (qT B n p').2.1), some g, fv_sc σ2, rfl, by show fv_n σ2 + 1 = _; rw [fn], xFo_sc fo, ⟨wr.1, by show qwr (qT B n p') ≤ 9; omega, by show (qT B n p').2.1 ≤ 6000; have := hb.2.1; omega⟩, r2, qtm_lt ?_⟩
        have := y8 g rfl
        have := hb.1
        show g.2 < (qT B n p').2.1
        omega
/-- a line as a whole: its fault, or where it ends -/
def xRd (B : Nat → Nat) (n : Nat) (F : Option (Nat × Nat)) (o : qOu) (post : fv_S → Prop) (σ : fv_S) (out : Option fv_O) : Prop := match F with
  | none => ∃ p' σ', o = .inr p' ∧ (qT B n p').1 = 0 ∧ p' ≤ n ∧ out = fv_rv σ' ∧ fv_n σ' = fv_n σ ∧ xFo σ σ' ∧ qX B n σ' ∧ qXt n (qT B n p') σ' ∧ post σ'
  | some f => ∃ σ', out = fv_th (Int32.ofNat f.1) (Int32.ofNat f.2) σ' ∧ fv_n σ' ≤ fv_n σ + 2 ∧ xFo σ σ'
theorem x_rl {B : Nat → Nat} {n N : Nat} {F : Option (Nat × Nat)} {o : qOu} {post : fv_S → Prop} {σ : fv_S} {out : Option fv_O} (H : xLo B n F o post σ out) : xRd B n F o post σ (fv_bv out (fun σ2 => zX3_readLine_13 N σ2) (fun n3 n4 σ5 => fv_bv (zX3_lineFault_a n3 n4 σ5) (fun σ10 => zX3_readLine_13 N σ10) fv_th)) := by
  cases F with
  | none =>
    obtain ⟨p', σ', a, b, c, d, e, g, k1, k2, k3, k4⟩ := H
    rw [d, fv_bv_rv]
    refine ⟨p', σ', a, b, c, ?_, e, g, k1, k2, k4⟩
    unfold zX3_readLine_13 zX3_lineFault_n
    rw [show fv_gi σ' 1563 = 0 from k3, if_pos (show (0 : Int32) ≤ 0 by decide), fv_bv_rv]
  | some f =>
    have pos : ∀ s : fv_S, xR (some f) s → ¬ fv_gi s 1563 ≤ 0 := fun s hs e => by rw [hs.1] at e; have := (p_leN f.1 0 (by have := hs.2.2.2.1; omega) (by omega)).1 e; have := hs.2.2.1; omega
    rcases H with ⟨σ', a, b, c, d⟩ | ⟨f', r, σ', a, b, c, d, e, g⟩
    · rw [a, fv_bv_rv]
      unfold zX3_readLine_13 zX3_lineFault_n
      rw [if_neg (pos σ' d), d.1, d.2.1, fv_bv_th]
      exact ⟨fv_sc σ', rfl, by show fv_n σ' + 1 ≤ _; omega, xFo_sc c⟩
    · rw [a, fv_bv_th]
      unfold zX3_lineFault_a
      obtain ⟨σ3, x3, r3, f3, f3'⟩ := x_tell e f' d.1 d.2.1 d.2.2
      rw [g] at r3
      rw [x3, fv_bv_rv, if_neg (pos σ3 r3), r3.1, r3.2.1, fv_bv_th]
      have n3 : fv_n σ3 = fv_n σ' := by show σ3.2.2.2 = _; rw [f3']
      refine ⟨fv_sc σ3, rfl, by show fv_n σ3 + 1 ≤ _; omega, xFo_sc (xFo_t c ⟨fun k h1 h2 h3 => f3 k (by omega) (by omega), ⟨by rw [f3'], xB17_e (by show σ3.2.2.1 17 = _; rw [f3'])⟩, fun a _ => by show σ3.2.2.1 a = _; rw [f3']⟩)⟩
