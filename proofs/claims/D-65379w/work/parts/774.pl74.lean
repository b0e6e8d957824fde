set_option maxRecDepth 100000
set_option maxHeartbeats 4000000
/-! The plain law: DS. -/
theorem m_data {B : Nat → Nat} {n N p q : Nat} (hS : qS B n) (hN : 7000 ≤ N) {sec : Bool} (wide : Bool) {L : List (List Nat × Int32)} {h : Nat} (hh0 : h ≤ 65536) {I : List (Bool × Bool)} {org : Nat} {M : qMem} {τ : fv_S} (z : mZ B n sec L h I org τ) (k : qMt B (qT B n p) τ) (hp : p ≤ n) (hM : sec = true → mMe M τ) (hh : sec = true → h + (qDa B n sec wide L org 6002 p).2.1.length ≤ 65536) (hB : sec = true → M.2.1 ≤ 2000000000 + h) :
    mSo B n (qLF B n (qDa B n sec wide L org 6002 p).1 (qDa B n sec wide L org 6002 p).2.2 (h + (qDa B n sec wide L org 6002 p).2.1.length) q) (qDa B n sec wide L org 6002 p).2.2 (fun τ' => mZ B n sec L (h + (qDa B n sec wide L org 6002 p).2.1.length) I org τ' ∧ (sec = true → mMe (qlm (qDa B n sec wide L org 6002 p).2.1 M h) τ') ∧ (sec = false → mMs τ τ')) τ (zX8_directive_31 N (Int32.ofNat q) (q01 wide) τ) := by
  have hn := hS.1
  unfold zX8_directive_31 zX8_data
  refine mSo_b ?_
  rw [z.2.2.2.1]
  exact m_dal (N := N) (q := q) hS hN wide hh0 6002 p N 0 M τ (by omega) (by omega) (by omega) ⟨by split <;> exact z, k, hp, hM⟩ hh hB
noncomputable def qS1 (B : Nat → Nat) (n : Nat) (L : List (List Nat × Int32)) (org p : Nat) : Option (Nat × Nat) := qkg ((qEX B n p).1 (qen L org)).1 ((qEX B n p).1 (qen L org)).2 (qEX B n p).2 0 65535 (qT B n p).2.1
/-- DS: what is told, its octets, its outcome -/
noncomputable def qSp (B : Nat → Nat) (n : Nat) (sec : Bool) (L : List (List Nat × Int32)) (org p : Nat) : Option (Nat × Nat) × List Nat × qOu := match (qEX B n p).2 with
  | .inl f => (qS1 B n L org p, [], .inl f)
  | .inr p1 => match qS1 B n L org p with
    | some g => (some g, [], .inl g)
    | none => if (qT B n p1).1 = 44 then (if sec = true then qkg ((qEX B n (qT B n p1).2.2.1).1 (qen L org)).1 ((qEX B n (qT B n p1).2.2.1).1 (qen L org)).2 (qEX B n (qT B n p1).2.2.1).2 (-128) 255 (qT B n (qT B n p1).2.2.1).2.1 else none, List.replicate ((qEX B n p).1 (qen L org)).2.toNatClampNeg (qoc ((qEX B n (qT B n p1).2.2.1).1 (qen L org)).2), (qEX B n (qT B n p1).2.2.1).2) else (none, List.replicate ((qEX B n p).1 (qen L org)).2.toNatClampNeg 0, .inr p1)
theorem qSp_i {B : Nat → Nat} {n : Nat} {sec : Bool} {L : List (List Nat × Int32)} {org p : Nat} {f : Nat × Nat} (h : (qEX B n p).2 = .inl f) : qSp B n sec L org p = (qS1 B n L org p, [], .inl f) := by unfold qSp; rw [h]
theorem qSp_g {B : Nat → Nat} {n : Nat} {sec : Bool} {L : List (List Nat × Int32)} {org p p1 : Nat} {g : Nat × Nat} (h : (qEX B n p).2 = .inr p1) (hg : qS1 B n L org p = some g) : qSp B n sec L org p = (some g, [], .inl g) := by unfold qSp; rw [h]; show (match qS1 B n L org p with | some g => _ | none => _ : Option (Nat × Nat) × List Nat × qOu) = _; rw [hg]
theorem qSp_c {B : Nat → Nat} {n : Nat} {sec : Bool} {L : List (List Nat × Int32)} {org p p1 : Nat} (h : (qEX B n p).2 = .inr p1) (hg : qS1 B n L org p = none) (c : (qT B n p1).1 = 44) : qSp B n sec L org p = (if sec = true then qkg ((qEX B n (qT B n p1).2.2.1).1 (qen L org)).1 ((qEX B n (qT B n p1).2.2.1).1 (qen L org)).2 (qEX B n (qT B n p1).2.2.1).2 (-128) 255 (qT B n (qT B n p1).2.2.1).2.1 else none, List.replicate ((qEX B n p).1 (qen L org)).2.toNatClampNeg (qoc ((qEX B n (qT B n p1).2.2.1).1 (qen L org)).2), (qEX B n (qT B n p1).2.2.1).2) := by
  unfold qSp; rw [h]; show (match qS1 B n L org p with | some g => _ | none => _ : Option (Nat × Nat) × List Nat × qOu) = _; rw [hg]; exact if_pos c
theorem qSp_e {B : Nat → Nat} {n : Nat} {sec : Bool} {L : List (List Nat × Int32)} {org p p1 : Nat} (h : (qEX B n p).2 = .inr p1) (hg : qS1 B n L org p = none) (c : ¬ (qT B n p1).1 = 44) : qSp B n sec L org p = (none, List.replicate ((qEX B n p).1 (qen L org)).2.toNatClampNeg 0, .inr p1) := by
  unfold qSp; rw [h]; show (match qS1 B n L org p with | some g => _ | none => _ : Option (Nat × Nat) × List Nat × qOu) = _; rw [hg]; exact if_neg c
theorem qS1_n {B : Nat → Nat} {n : Nat} {L : List (List Nat × Int32)} {org p p1 : Nat} (h : (qEX B n p).2 = .inr p1) (hg : qS1 B n L org p = none) : ((qEX B n p).1 (qen L org)).1 = none ∧ qin ((qEX B n p).1 (qen L org)).2 0 65535 = true := by
  unfold qS1 at hg
  rw [h] at hg
  have hg : qoe _ _ = none := hg
  obtain ⟨a, b⟩ := qoe_no hg
  refine ⟨a, ?_⟩
  cases hq : qin ((qEX B n p).1 (qen L org)).2 0 65535 with
  | true => rfl
  | false => rw [hq, if_neg (by decide)] at b; exact absurd b (by simp)
/-- octets of DS, in the class -/
theorem x_lays {B : Nat → Nat} {n N : Nat} {sec : Bool} {L : List (List Nat × Int32)} {h : Nat} {I : List (Bool × Bool)} {org p : Nat} {G : Option (Nat × Nat)} {M : qMem} {σ : fv_S} (D : xD B n sec L h I org G M p σ) (c : Nat) (hc : c ≤ 65535) (hh0 : h ≤ 65536) (hh : sec = true → h + c ≤ 65536) (w : Int32) (hN : 70000 ≤ N) : ∃ σ', zX3_space_81 N N (Int32.ofNat c) w 0 σ = fv_rv σ' ∧ xFw σ σ' ∧ xD B n sec L (h + c) I org G (qlm (List.replicate c (qoc w)) M h) p σ' := by
  have lp : ∀ (d i m : Nat) (s : fv_S), c - i = d → i ≤ c → d + 1 ≤ m → xFy σ s → xZ B n sec L (h + i) I org s → (sec = true → G = none → xMe (qlm (List.replicate i (qoc w)) M h) s) → ∃ σ', zX3_space_81 N m (Int32.ofNat c) w (Int32.ofNat i) s = fv_rv σ' ∧ xFw σ σ' ∧ xD B n sec L (h + c) I org G (qlm (List.replicate c (qoc w)) M h) p σ' := by
    intro d
    induction d with
    | zero =>
      intro i m s e hi hm f z hMe
      obtain ⟨m, rfl⟩ : ∃ j, m = j + 1 := ⟨m - 1, by omega⟩
      have ei : i = c := by omega
      subst ei
      refine ⟨s, ?_, xFw_y f, z, xAt_y D.2.1 f, xR_y D.2.2.1 f, D.2.2.2.1, hMe⟩
      show zX3_space_81_b _ _ _ _ _ _ = _
      unfold zX3_space_81_b
      rw [if_pos ((p_leN i i (by omega) (by omega)).2 (Nat.le_refl _))]
    | succ d ih =>
      intro i m s e hi hm f z hMe
      obtain ⟨m, rfl⟩ : ∃ j, m = j + 1 := ⟨m - 1, by omega⟩
      obtain ⟨σ2, x2, z2, f2, m2⟩ := x_lay z (xR_y D.2.2.1 f) hMe (fun hs => by have := hh hs; omega) w
      have st : zX3_space_81 N (m + 1) (Int32.ofNat c) w (Int32.ofNat i) s = zX3_space_81 N m (Int32.ofNat c) w (Int32.ofNat (i + 1)) σ2 := by
        show zX3_space_81_b _ _ _ _ _ _ = _
        unfold zX3_space_81_b
        rw [if_neg (fun e => by have := (p_leN c i (by omega) (by omega)).1 e; omega), x2, fv_bv_rv, p_sucN]
      rw [st]
      refine ih (i + 1) m σ2 (by omega) (by omega) (by omega) (xFy_t f f2) z2 (fun hs hG => ?_)
      rw [List.replicate_succ', qlm_app, List.length_replicate]
      exact m2 hs hG
  exact lp c 0 N σ (by omega) (by omega) (by omega) (xFy_r σ) D.1 D.2.2.2.2
theorem x_space {B : Nat → Nat} {n N p : Nat} (hS : qS B n) (hN : 70000 ≤ N) {sec : Bool} {L : List (List Nat × Int32)} {h : Nat} {I : List (Bool × Bool)} {org : Nat} {M : qMem} {σ : fv_S} (z : xZ B n sec L h I org σ) (ha : xAt B n p σ) (hR : xR none σ) (hM : sec = true → xMe M σ) (hh0 : h ≤ 65536) (hh : sec = true → h + (qSp B n sec L org p).2.1.length ≤ 65536) :
    xSo B n (qSp B n sec L org p).1 (qSp B n sec L org p).2.2 (fun σ' => xZ B n sec L (h + (qSp B n sec L org p).2.1.length) I org σ' ∧ (sec = true → xMe (qlm (qSp B n sec L org p).2.1 M h) σ')) σ (fv_bv (zX3_space N σ) (fun σ14 => fv_rv σ14) fv_th) := by
  have hn := hS.1
  have hp := ha.1
  have R := x_kx (N := N) hS (by omega) z ha hR 0 65535
  unfold zX3_space
  rw [show qkg ((qEX B n p).1 (qen L org)).1 ((qEX B n p).1 (qen L org)).2 (qEX B n p).2 0 65535 (qT B n p).2.1 = qS1 B n L org p from rfl] at R
  cases ho : (qEX B n p).2 with
  | inl f =>
    rw [qSp_i ho]
    rw [ho] at R
    obtain ⟨σ', y1, y2, y3, y4, y5, y6⟩ := R
    rw [y1, fv_bi_th, fv_bv_th]
    exact ⟨σ', rfl, y3, y2, ⟨y4.1, by omega, by omega⟩, y5, fun g hg => qtm_lt (y6 g hg)⟩
  | inr p1 =>
    rw [ho] at R
    obtain ⟨w, σ', y1, y2, y3, y4, y5, y6, y7, y8⟩ := R
    have z' := xZ_f z y2 y4
    have fw' := xFw_x y2 y3
    rw [y1, fv_bi_ri]
    cases hg : qS1 B n L org p with
    | some g =>
      rw [hg] at y6 y7
      rw [qSp_g ho hg]
      have hb0 : g.2 ≤ 6000 := y6.2.2.2.2
      rw [if_neg (show ¬ fv_gi σ' 1563 ≤ 0 from fun e => by rw [y6.1] at e; have := (p_leN g.1 0 (by have := y6.2.2.2.1; omega) (by omega)).1 e; have := y6.2.2.1; omega), y6.1, y6.2.1, fv_bv_th]
      refine ⟨fv_sc σ', rfl, by show fv_n σ' + 1 = _; rw [y3], xFo_sc fw'.1, ⟨y6.2.2.1, y6.2.2.2.1, hb0⟩, y6, fun g' hg' => ?_⟩
      have := Option.some.inj hg'
      subst this
      show (if g.2 < g.2 ∨ (g.2 = g.2 ∧ g.1 ≤ g.1) then some g else some g) = some g
      split <;> rfl
    | none =>
      rw [hg] at y6 y7 y8
      obtain ⟨g0, hi⟩ := qS1_n ho hg
      obtain ⟨cnt, m1, m2, m3, m4⟩ := qin_16 hi
      have ew : w = Int32.ofNat cnt := (y8 rfl).trans m2
      have hb1 := qT_b hS p1 y5.1
      rw [if_pos (show fv_gi σ' 1563 ≤ 0 by rw [show fv_gi σ' 1563 = 0 from y6]; decide)]
      obtain ⟨σ2, x2, f2, k2⟩ := x_look (N := N) hS (by omega) z'.1 y5
      have z2 := xZ_g z' f2
      have r2 : xR none σ2 := xR_c y6 (f2.1 1563 (by omega)) (f2.1 1564 (by omega))
      have fw2 := xFw_t fw' (xFw_g f2)
      have M2 : sec = true → xMe M σ2 := fun hs => xMe_s (hM hs) (xMs_t (xMs_x y2) (xMs_g f2))
      rw [x2, fv_bi_ri, ew]
      by_cases c44 : (qT B n p1).1 = 44
      · rw [qSp_c ho hg c44] at hh ⊢
        rw [m4] at hh ⊢
        obtain ⟨σ3, x3, f3, a3, _⟩ := x_pass (B := B) hb1 k2 (by omega) (by omega)
        have z3 := xZ_g z2 f3
        have r3 : xR none σ3 := xR_c r2 (f3.1 1563 (by omega)) (f3.1 1564 (by omega))
        have fw3 := xFw_t fw2 (xFw_g f3)
        have M3 : sec = true → xMe M σ3 := fun hs => xMe_s (M2 hs) (xMs_g f3)
        have hp3 := a3.1
        have hb3 := qT_b hS (qT B n p1).2.2.1 hp3
        rw [if_neg (show ¬ ¬ qxk n (qT B n p1) = 44 from not_not_intro ((qxk_ne hb1 44 (by omega) (by omega) (by omega)).2 c44)), x3, fv_bv_rv]
        have R2 := x_ex (N := N) hS (by omega) (K := sec) (L := L) (org := org) (G := none) z3.1 z3.2.1 z3.2.2.2.2.2.1 z3.2.2.2.2.2.2.1 (by rw [z3.2.2.1, z3.2.2.2.1.1]; cases sec <;> decide) a3 r3 (fun f hf => absurd hf (by simp))
        have st := Ps_st hS (qEX_s hS hp3) rfl hp3
        generalize hp2 : (qT B n p1).2.2.1 = p2 at R2 hb3 st hh ⊢
        generalize ((qEX B n p2).1 (qen L org)).1 = g2 at R2 hh ⊢
        generalize ((qEX B n p2).1 (qen L org)).2 = v2 at R2 hh ⊢
        generalize (qEX B n p2).2 = o2 at R2 st hh ⊢
        simp only [List.length_replicate] at hh ⊢
        cases o2 with
        | inl f =>
          obtain ⟨σ4, w1, w2, w3, w4, w5, w6⟩ := R2
          rw [w1, fv_bi_th, fv_bv_th]
          exact ⟨σ4, rfl, w3.trans (by rw [fw3.2.1]), xFo_t fw3.1 (xFo_x w2), ⟨w4.1, by omega, by omega⟩, w5, fun g hg => qtm_lt (w6 g hg)⟩
        | inr p3 =>
          obtain ⟨w', σ4, w1, w2, w3, w4, w5, w6, w7, w8, w9⟩ := R2
          have z4 := xZ_f z3 w2 w4
          have fw4 := xFw_t fw3 (xFw_x w2 w3)
          have M4 : sec = true → xMe M σ4 := fun hs => xMe_s (M3 hs) (xMs_x w2)
          rw [w1, fv_bi_ri]
          have e0 : ∀ r : Option (Nat × Nat), qoe none r = r := fun _ => rfl
          rw [e0] at w7 w8
          -- the range
          have rng : ∃ σ5, (if fv_gi σ4 1560 = 0 then zX3_space_81 N N (Int32.ofNat cnt) w' 0 σ4 else fv_bv (zX3_inRange w' (-128) 255 (fv_gi σ4 1561) σ4) (fun σ9 => zX3_space_81 N N (Int32.ofNat cnt) w' 0 σ9) fv_no) = zX3_space_81 N N (Int32.ofNat cnt) w' 0 σ5 ∧ xFw σ σ5 ∧ xD B n sec L h I org (if sec = true then qoe g2 (if qin v2 (-128) 255 = true then none else some (5, (qT B n p2).2.1)) else none) M p3 σ5 ∧ (sec = true → (if sec = true then qoe g2 (if qin v2 (-128) 255 = true then none else some (5, (qT B n p2).2.1)) else none) = none → w' = v2) := by
            by_cases c0 : fv_gi σ4 1560 = 0
            · rw [if_pos c0]
              by_cases hs : sec = true
              · obtain ⟨k1, k2'⟩ := w9 hs
                have hg2 := k1.1 c0
                have eg : qoe g2 (if qin v2 (-128) 255 = true then none else some (5, (qT B n p2).2.1)) = g2 := by
                  cases g2 with
                  | none => exact absurd rfl hg2
                  | some f => rfl
                rw [if_pos hs] at w7 w8 ⊢
                rw [eg]
                exact ⟨σ4, rfl, fw4, ⟨z4, w6, w7, w8, fun _ h0 => absurd h0 hg2⟩, fun _ h0 => absurd h0 hg2⟩
              · rw [if_neg hs] at w7 w8 ⊢
                exact ⟨σ4, rfl, fw4, ⟨z4, w6, w7, w8, fun h => absurd h hs⟩, fun h => absurd h hs⟩
            · rw [if_neg c0, w5]
              obtain ⟨σ5, x5, r5, f5, f5'⟩ := x_inr (sec := sec) z4.2.2.1 w7 w' (-128) 255 (qT B n p2).2.1 (by have := hb3.2.1; omega)
              rw [x5, fv_bv_rv]
              have fx5 := xFx_tl f5 f5'
              have z5 := xZ_f z4 fx5 ((f5 1562 (by omega) (by omega)).trans w4)
              have fw5 := xFw_t fw4 (xFw_x fx5 (by show σ5.2.2.2 = _; rw [f5']))
              have a5 := xAt_c w6 (σ' := σ5) (fun k h1 h2 => f5 k (by omega) (by omega))
              have M5 : sec = true → xMe M σ5 := fun hs => xMe_s (M4 hs) (xMs_x fx5)
              by_cases hs : sec = true
              · obtain ⟨k1, k2'⟩ := w9 hs
                have hg2 : g2 = none := by
                  cases g2 with
                  | none => rfl
                  | some f => exact absurd (k1.2 (by simp)) c0
                subst hg2
                have ew' := k2' rfl
                subst ew'
                rw [if_pos hs] at r5 w8 ⊢
                have e1 : qoe none (if qin w' (-128) 255 = true then none else some (5, (qT B n p2).2.1)) = (if qin w' (-128) 255 = true then none else some (5, (qT B n p2).2.1)) := rfl
                rw [e1]
                cases hq : qin w' (-128) 255 with
                | true =>
                  rw [hq, if_neg (fun e => absurd e.2 (by decide))] at r5
                  rw [if_pos rfl]
                  exact ⟨σ5, rfl, fw5, ⟨z5, a5, r5, fun f hf => absurd hf (by simp), fun hs _ => M5 hs⟩, fun _ _ => rfl⟩
                | false =>
                  rw [hq, if_pos ⟨hs, rfl⟩] at r5
                  rw [if_neg (by decide)]
                  exact ⟨σ5, rfl, fw5, ⟨z5, a5, r5, fun f hf => by rw [← Option.some.inj hf]; exact st p3 rfl, fun _ h0 => absurd h0 (by simp)⟩, fun _ h0 => rfl⟩
              · rw [if_neg (fun e => hs e.1), if_neg hs] at r5
                rw [if_neg hs] at w8 ⊢
                exact ⟨σ5, rfl, fw5, ⟨z5, a5, r5, w8, fun h => absurd h hs⟩, fun h => absurd h hs⟩
          obtain ⟨σ5, x5, fw5, D5, v5⟩ := rng
          rw [x5]
          obtain ⟨σ6, x6, fw6, D6⟩ := x_lays D5 cnt m1 hh0 hh w' hN
          rw [x6, fv_bv_rv]
          have fw := xFw_t fw5 fw6
          refine ⟨σ6, rfl, fw.2.1, fw.1, fw.2.2, D6.1.1, D6.2.1, D6.2.2.1, D6.2.2.2.1, fun h0 => ⟨D6.1, fun hs => ?_⟩, fun h0 => ?_⟩
          · have := D6.2.2.2.2 hs h0
            rw [v5 hs h0] at this; exact this
          · have hs : sec = true := by
              cases hx : sec with
              | true => rfl
              | false => rw [hx] at h0; exact absurd (if_neg (by decide)) h0
            rw [D6.1.2.2.2.2.1]
            have := hh hs
            exact (p_leN _ 65536 (by omega) (by omega)).2 this
      · rw [qSp_e ho hg c44] at hh ⊢
        rw [m4] at hh ⊢
        rw [if_pos (show ¬ qxk n (qT B n p1) = 44 from fun e => c44 ((qxk_ne hb1 44 (by omega) (by omega) (by omega)).1 e))]
        simp only [List.length_replicate] at hh ⊢
        obtain ⟨σ6, x6, fw6, D6⟩ := x_lays (B := B) (n := n) (sec := sec) (L := L) (h := h) (I := I) (org := org) (p := p1) (G := none) (M := M) (σ := σ2) ⟨z2, xAt_of y5.1 k2, r2, fun f hf => absurd hf (by simp), fun hs _ => M2 hs⟩ cnt m1 hh0 hh 0 hN
        rw [x6, fv_bv_rv]
        have fw := xFw_t fw2 fw6
        refine ⟨σ6, rfl, fw.2.1, fw.1, fw.2.2, D6.1.1, D6.2.1, D6.2.2.1, D6.2.2.2.1, fun h0 => ⟨D6.1, fun hs => ?_⟩, fun h0 => absurd rfl h0⟩
        exact D6.2.2.2.2 hs rfl
