set_option maxRecDepth 100000
set_option maxHeartbeats 4000000
/-! The plain law: an instruction in the class. -/
theorem xZ_told {B : Nat → Nat} {n : Nat} {sec : Bool} {L : List (List Nat × Int32)} {h : Nat} {I : List (Bool × Bool)} {org : Nat} {σ σ' : fv_S} (z : xZ B n sec L h I org σ) (f : xTold σ σ') : xZ B n sec L h I org σ' :=
  xZ_f z ⟨fun k _ _ _ h4 h5 _ => f.1 k h4 h5, by rw [f.2], by rw [f.2]⟩ ((f.1 1562 (by omega) (by omega)).trans z.2.2.2.2.2.2.1)
theorem xFw_told {σ σ' : fv_S} (f : xTold σ σ') : xFw σ σ' := ⟨⟨fun k h1 h2 h3 => f.1 k (by omega) (by omega), ⟨by rw [f.2], xB17_e (by show σ'.2.2.1 17 = _; rw [f.2])⟩, fun a _ => by show σ'.2.2.1 a = _; rw [f.2]⟩, by show σ'.2.2.2 = _; rw [f.2], f.1 1548 (by omega) (by omega)⟩
theorem xMs_told {σ σ' : fv_S} (f : xTold σ σ') : xMs σ σ' := ⟨by show σ'.2.2.1 20 = _; rw [f.2], f.1 _ (by omega) (by omega), f.1 _ (by omega) (by omega), f.1 _ (by omega) (by omega)⟩
theorem gw_told {σ σ' : fv_S} (f : xTold σ σ') (a : Nat) : fv_gw σ' a = fv_gw σ a := by show σ'.2.2.1 a = _; rw [f.2]
/-- the class holds two numbers -/
def xOO (sec : Bool) (c0 j0 c1 j1 : Nat) (ev0 ev1 : Option (Nat × Nat)) (v0 v1 : Int32) (pl0 pl1 : Nat) (σ : fv_S) : Prop := xOv sec 0 c0 ev0 v0 pl0 σ ∧ xOv sec 1 c1 ev1 v1 pl1 σ ∧ (1 ≤ c0 → c0 ≤ 4 → fv_gw σ 22 0 = Int32.ofNat j0) ∧ (1 ≤ c1 → c1 ≤ 4 → fv_gw σ 22 1 = Int32.ofNat j1)
theorem xOO_c {sec : Bool} {c0 j0 c1 j1 : Nat} {ev0 ev1 : Option (Nat × Nat)} {v0 v1 : Int32} {pl0 pl1 : Nat} {σ σ' : fv_S} (h : xOO sec c0 j0 c1 j1 ev0 ev1 v0 v1 pl0 pl1 σ) (g : ∀ a, 21 ≤ a → a ≤ 26 → fv_gw σ' a = fv_gw σ a) : xOO sec c0 j0 c1 j1 ev0 ev1 v0 v1 pl0 pl1 σ' :=
  ⟨xOv_c h.1 g, xOv_c h.2.1 g, fun a b => by rw [g 22 (by omega) (by omega)]; exact h.2.2.1 a b, fun a b => by rw [g 22 (by omega) (by omega)]; exact h.2.2.2 a b⟩
theorem xOf_v {sec any : Bool} {o c j : Nat} {ev : Option (Nat × Nat)} {v : Int32} {pl : Nat} {σ : fv_S} (h : xOv sec o c ev v pl σ) (hj : 1 ≤ c → c ≤ 4 → fv_gw σ 22 o = Int32.ofNat j) (j9 : j < 99) (ha : any = false → sec = true ∧ ev = none) : xOf o c j any (qU v) σ := by
  obtain ⟨h1, h2, h3, h4⟩ := h
  refine ⟨h1, hj, fun hc => ?_, fun a c6 k hk => ?_, h2, j9⟩
  · rw [h3 (by omega)]
    rcases hc with e | e
    · rw [e]; rfl
    · rw [e]; rfl
  · obtain ⟨a1, a2⟩ := ha a
    rw [(h4 (by omega)).2.2.2 a1 a2]
    exact qU_e v k hk
/-- behind the operands: the form is there -/
theorem x_insF {B : Nat → Nat} {n N w p' : Nat} (hN : 7000 ≤ N) (hw : w < 67) {sec : Bool} {L : List (List Nat × Int32)} {h : Nat} {I : List (Bool × Bool)} {org : Nat} {M : qMem} {σ : fv_S} {m c0 j0 c1 j1 : Nat} {ev0 ev1 : Option (Nat × Nat)} {v0 v1 : Int32} {pl0 pl1 : Nat} {G0 : Option (Nat × Nat)} {f : p_F}
    (z : xZ B n sec L h I org σ) (hR : xR G0 σ) (ha : xAt B n p' σ) (O : xOO sec c0 j0 c1 j1 ev0 ev1 v0 v1 pl0 pl1 σ) (hd : eD m c0 j0 c1 j1) (hF : pFm σ) (hM : sec = true → xMe M σ) (hf : eFd w c0 j0 c1 j1 true 0 = some f)
    (hG0 : G0 = if sec = true then qoe ev0 ev1 else none) (h0 : c0 < 4 → ev0 = none) (h1 : c1 < 4 → ev1 = none) (hp : 4 ≤ c0 → 4 ≤ c1 → pl0 < pl1 ∧ (∀ f, ev0 = some f → f.2 < pl1) ∧ (∀ f, ev1 = some f → pl0 < f.2)) (hv0 : c0 < 4 → v0 = 0) (hv1 : c1 < 4 → v1 = 0) (hh : sec = true → h + e_sz f ≤ 65536)
    {Gs : Option (Nat × Nat)} (hGs : Gs = qoe (qEr ev0 pl0 c0 (qo0 w f.2.2.2.1 c0 v0 (Int32.ofNat (h + e_sz f)))) (qEr ev1 pl1 c1 (qRk f.2.2.2.2.2.1 v1 (Int32.ofNat (h + e_sz f))))) :
    ∃ σ', fv_bv (zX3_checkNumber (Int32.ofNat w) σ) (fun σ20 =>
          fv_bi (zX3_form N (Int32.ofNat w) σ20) (fun r22 σ21 =>
            if (0 : Int32) ≤ r22 then
              fv_bi (zX2_size r22 σ21) (fun r24 σ23 =>
                if fv_in r22 900 then
                  fv_bv (zX3_checkValue 0 (fv_ga σ23 5 r22) ((fv_gi σ23 1543) + r24) σ23) (fun σ26 =>
                    if fv_in r22 900 then
                      fv_bv (zX3_checkValue 1 (fv_ga σ26 7 r22) ((fv_gi σ23 1543) + r24) σ26) (fun σ28 =>
                        if fv_in r22 900 then
                          if ¬ (fv_ga σ28 9 r22) = (2 : Int32) then
                            zX3_instruction_121 N r22 ((fv_gi σ23 1543) + r24) (fv_ga σ28 9 r22) σ28
                          else
                            fv_bv (zX3_lay 237 σ28) (fun σ30 =>
                              zX3_instruction_121 N r22 ((fv_gi σ23 1543) + r24) (fv_ga σ28 9 r22) σ30) fv_no
                        else none) fv_no
                    else none) fv_no
                else none) fv_no
            else
              fv_bv (zX3_tellFault 6 (fv_gi σ21 1548) σ21) (fun σ31 =>
                fv_rv σ31) fv_no) fv_no) fv_no = fv_rv σ' ∧ xFw σ σ' ∧ xAt B n p' σ' ∧ xZ B n sec L (h + e_sz f) I org σ' ∧ xR (if sec = true then Gs else none) σ' ∧ (sec = true → Gs = none → ∃ g, eFd w c0 j0 c1 j1 false (qU v0) = some g ∧ (qIl g (if g.2.2.2.1 = 10 then v0 else v1) v0 v1 (Int32.ofNat (h + e_sz f))).length = e_sz f ∧ xMe (qlm (qIl g (if g.2.2.2.1 = 10 then v0 else v1) v0 v1 (Int32.ofNat (h + e_sz f))) M h) σ') := by
  obtain ⟨dl0, dl1, dl2, dl3⟩ := eD_le hd
  have z41 := z.2.2.1
  -- the numbers' check
  obtain ⟨σ1, x1, r1, t1⟩ := x_chn z41 hR hw O.1
  generalize hG1 : (if sec = true ∧ c0 = 6 ∧ ev0 = none ∧ qRp (e_pk w) v0 = false then qtm G0 (5, pl0) else G0) = G1 at r1
  have z1 := xZ_told z t1
  have O1 := xOO_c O (fun a _ _ => gw_told t1 a)
  have F1 : pFm σ1 := pFm_c hF (t1.1 391 (by omega) (by omega)) (fun k _ _ => gw_told t1 k)
  rw [x1, fv_bv_rv]
  -- the form
  generalize hany : (!sec || G1.isSome) = any
  have anyf : any = false → sec = true ∧ G1 = none := by
    intro e
    rw [← hany] at e
    cases hs : sec with
    | false => rw [hs] at e; exact absurd e (by simp)
    | true =>
      rw [hs] at e
      cases hg : G1 with
      | none => exact ⟨rfl, rfl⟩
      | some g => rw [hg] at e; exact absurd e (by simp)
  have G1n : sec = true → G1 = none → ev0 = none ∧ ev1 = none ∧ (c0 = 6 → qRp (e_pk w) v0 = true) := by
    intro hs hg
    rw [hg] at hG1
    rw [hG0, if_pos hs] at hG1
    by_cases c : sec = true ∧ c0 = 6 ∧ ev0 = none ∧ qRp (e_pk w) v0 = false
    · rw [if_pos c] at hG1
      exfalso
      cases hq : qoe ev0 ev1 with
      | none => rw [hq] at hG1; exact absurd hG1 (by unfold qtm; simp)
      | some g =>
        rw [hq] at hG1
        have hG1 : (if g.2 < pl0 ∨ (pl0 = g.2 ∧ g.1 ≤ 5) then some g else some (5, pl0)) = none := hG1
        split at hG1 <;> exact absurd hG1 (by simp)
    · rw [if_neg c] at hG1
      have e0 : ev0 = none := by
        cases hq : ev0 with
        | none => rfl
        | some g => rw [hq] at hG1; exact absurd hG1 (by unfold qoe; simp)
      have e1 : ev1 = none := by rw [e0] at hG1; exact hG1
      refine ⟨e0, e1, fun c6 => ?_⟩
      cases hq : qRp (e_pk w) v0 with
      | true => rfl
      | false => exact absurd ⟨hs, c6, e0, hq⟩ c
  have anyi : any = true ↔ (fv_gi σ1 1541 = 0 ∨ (0 : Int32) < fv_gi σ1 1563) := by
    rw [← hany, z1.2.2.1]
    cases hs : sec with
    | false => exact ⟨fun _ => Or.inl rfl, fun _ => rfl⟩
    | true =>
      cases hg : G1 with
      | none => rw [hg] at r1; rw [show fv_gi σ1 1563 = 0 from r1]; decide
      | some g =>
        rw [hg] at r1
        refine ⟨fun _ => Or.inr ?_, fun _ => rfl⟩
        rw [r1.1]; exact (p_ltN 0 g.1 (by omega) (by have := r1.2.2.2.1; omega)).2 (by have := r1.2.2.1; omega)
  have Of0 : xOf 0 c0 j0 any (qU v0) σ1 := xOf_v O1.1 O1.2.2.1 dl1 (fun e => ⟨(anyf e).1, (G1n (anyf e).1 (anyf e).2).1⟩)
  have Of1 : xOf 1 c1 j1 any (qU v1) σ1 := xOf_v O1.2.1 O1.2.2.2 dl3 (fun e => ⟨(anyf e).1, (G1n (anyf e).1 (anyf e).2).2.1⟩)
  obtain ⟨r, x2, hr⟩ := x_form F1 Of0 Of1 anyi hN w hw
  -- the form found
  have fg : ∃ g, p_TL.find? (qfp w c0 j0 c1 j1 any (qU v0)) = some g ∧ eG w c0 c1 g ∧ e_sz g = e_sz f ∧ (e_bk g.2.2.2.1 = e_bk f.2.2.2.1 ∧ (g.2.2.2.1 = 10 ↔ f.2.2.2.1 = 10)) ∧ (e_bk g.2.2.2.2.2.1 = e_bk f.2.2.2.2.2.1 ∧ (g.2.2.2.2.2.1 = 10 ↔ f.2.2.2.2.2.1 = 10)) := by
    rcases e_sum hw hd with ⟨s, _, q2⟩ | ⟨s, f', _, q2, q3, q4, q5⟩
    · rw [hf] at q2; exact absurd q2 (by simp)
    · rw [hf] at q2
      have := Option.some.inj q2
      subst this
      cases ca : any with
      | true =>
        have e := eFd_u w c0 j0 c1 j1 (qU v0) 0
        rw [hf] at e
        exact ⟨f, e, q4, rfl, ⟨rfl, Iff.rfl⟩, rfl, Iff.rfl⟩
      | false =>
        obtain ⟨s1, s2⟩ := anyf ca
        obtain ⟨s3, s4, s5⟩ := G1n s1 s2
        have hu : e_pk w = 0 ∨ qU v0 ∈ e_us (e_pk w) := by
          by_cases c : e_pk w = 0
          · exact Or.inl c
          · exact Or.inr (qU_us (e_pk4 w) c (s5 (q4.1 c).1))
        obtain ⟨g, g1, g2, g3, g4, g5⟩ := q5 _ hu
        have sm := e_same g2 q3 g3 q4
        exact ⟨g, g1, g3, g5, sm.1, sm.2⟩
  obtain ⟨g, g1, g2, g3, g4, g5⟩ := fg
  rcases hr with ⟨hr, hr2⟩ | ⟨_, hr2⟩
  rotate_left
  · rw [g1] at hr2; exact absurd hr2 (by simp)
  rw [g1] at hr2
  have hgr : p_at r = g := (Option.some.inj hr2).symm
  obtain ⟨t_1, t_2, _, _, t_5, _, _⟩ := t_ok r hr
  rw [hgr] at t_1 t_2 t_5
  have hP : g.1 ≤ 6 := g2.2.2.2.2.2.2.2.2.2.2.2.1
  have hO : g.2.1 ≤ 255 := g2.2.2.2.2.2.2.2.2.2.2.2.2
  have h5 : 5 ≤ g.1 → g.2.2.2.1 = 10 ∨ g.2.2.2.2.2.1 = 10 := g2.2.2.2.2.2.2.2.2.2.2.1
  have xr : qxi r 696 = Int32.ofNat r := by unfold qxi; rw [if_pos hr]
  obtain ⟨i1, i2⟩ := p_inN r 900 (by omega) (by omega)
  have sz := x_size F1 hr (by rw [hgr]; omega) (by rw [hgr]; omega) (by rw [hgr]; omega)
  rw [hgr, p_szE hP, g3] at sz
  rw [x2, fv_bi_ri, xr, if_pos (show (0 : Int32) ≤ Int32.ofNat r from (p_leN 0 r (by omega) (by omega)).2 (by omega)), sz, fv_bi_ri, if_pos i1]
  have nxe : fv_gi σ1 1543 + Int32.ofNat (e_sz f) = Int32.ofNat (h + e_sz f) := by rw [z1.2.2.2.2.1, Int32.ofNat_add]
  rw [nxe]
  clear nxe
  generalize hnx : Int32.ofNat (h + e_sz f) = nx at *
  obtain ⟨a9, a10, a4, a5, a6, a7, a8⟩ := pFm_at F1 hr
  rw [hgr] at a9 a10 a5 a7
  have ga5 : fv_ga σ1 5 (Int32.ofNat r) = Int32.ofNat g.2.2.2.1 := by show fv_gw σ1 5 (Int32.ofNat r).toNatClampNeg = _; rw [i2]; exact a5
  obtain ⟨σ2, y1, y2, t2⟩ := x_chv (sec := sec) (k := g.2.2.2.1) z1.2.2.1 r1 (o := 0) (by omega) (by omega) nx O1.1
  rw [ga5, show zX3_checkValue 0 (Int32.ofNat g.2.2.2.1) nx σ1 = _ from y1, fv_bv_rv, if_pos i1]
  generalize hG2 : (if sec = true ∧ 4 ≤ c0 ∧ ev0 = none ∧ qRk g.2.2.2.1 v0 nx = false then qtm G1 (5, pl0) else G1) = G2 at y2
  have z2 := xZ_told z1 t2
  have O2 := xOO_c O1 (fun a _ _ => gw_told t2 a)
  have ga7 : fv_ga σ2 7 (Int32.ofNat r) = Int32.ofNat g.2.2.2.2.2.1 := by show fv_gw σ2 7 (Int32.ofNat r).toNatClampNeg = _; rw [i2, gw_told t2]; exact a7
  obtain ⟨σ3, w1, w2, t3⟩ := x_chv (sec := sec) (k := g.2.2.2.2.2.1) z2.2.2.1 y2 (o := 1) (by omega) (by omega) nx O2.2.1
  rw [ga7, show zX3_checkValue 1 (Int32.ofNat g.2.2.2.2.2.1) nx σ2 = _ from w1, fv_bv_rv, if_pos i1]
  generalize hG3 : (if sec = true ∧ 4 ≤ c1 ∧ ev1 = none ∧ qRk g.2.2.2.2.2.1 v1 nx = false then qtm G2 (5, pl1) else G2) = G3 at w2
  have z3 := xZ_told z2 t3
  have O3 := xOO_c O2 (fun a _ _ => gw_told t3 a)
  have gw3 : ∀ a, fv_gw σ3 a = fv_gw σ1 a := fun a => (gw_told t3 a).trans (gw_told t2 a)
  have ga9 : fv_ga σ3 9 (Int32.ofNat r) = Int32.ofNat g.1 := by show fv_gw σ3 9 (Int32.ofNat r).toNatClampNeg = _; rw [i2, gw3]; exact a9
  rw [ga9]
  have eG3 : G3 = if sec = true then Gs else none := by
    by_cases hs : sec = true
    · rw [if_pos hs, hGs]
      rw [hG0, if_pos hs] at hG1
      refine qG_ch (okp := qRp (e_pk w) v0) (okk := qRk f.2.2.2.1 v0 nx) (ok1 := qRk f.2.2.2.2.2.1 v1 nx) h0 h1 hp (G1 := G1) (G2 := G2) ?_ ?_ ?_
      · rw [← hG1]
        simp only [hs, true_and]
      · rw [← hG2, qRk_b g4]
        simp only [hs, true_and]
      · rw [← hG3, qRk_b g5]
        simp only [hs, true_and]
    · rw [if_neg hs]
      rw [if_neg (fun e => hs e.1)] at hG1 hG2 hG3
      rw [← hG3, ← hG2, ← hG1, hG0, if_neg hs]
  have sgn : sec = true → Gs = none → any = false ∧ ev0 = none ∧ ev1 = none := by
    intro hs hg
    have g3n : G3 = none := by rw [eG3, if_pos hs]; exact hg
    have nq : ∀ (r : Option (Nat × Nat)) (f : Nat × Nat), qtm r f ≠ none := by
      intro r f e
      cases r with
      | none => exact absurd e (by unfold qtm; simp)
      | some g =>
        have e : (if g.2 < f.2 ∨ (f.2 = g.2 ∧ g.1 ≤ f.1) then some g else some f) = none := e
        split at e <;> exact absurd e (by simp)
    have g2n : G2 = none := by
      rw [g3n] at hG3
      split at hG3
      · exact absurd hG3 (nq _ _)
      · exact hG3
    have g1n : G1 = none := by
      rw [g2n] at hG2
      split at hG2
      · exact absurd hG2 (nq _ _)
      · exact hG2
    obtain ⟨q1, q2, _⟩ := G1n hs g1n
    exact ⟨by rw [← hany, hs, g1n]; rfl, q1, q2⟩
  generalize hiv : (if g.2.2.2.1 = 10 then (if fv_gw σ3 23 0 = 0 then 0 else fv_gw σ3 25 0) else (if fv_gw σ3 23 1 = 0 then 0 else fv_gw σ3 25 1)) = iv
  have D : xDt g r iv (fv_gw σ3 25 0) (fv_gw σ3 25 1) σ3 := ⟨by rw [gw3]; exact a9, by rw [gw3]; exact a10, by rw [gw3]; exact a5, by rw [gw3]; exact a7, hP, hO, by omega, by omega, rfl, rfl, fun _ => hiv.symm⟩
  have len := qIl_len hP h5 iv (fv_gw σ3 25 0) (fv_gw σ3 25 1) nx
  have M3 : sec = true → xMe M σ3 := fun hs => xMe_s (xMe_s (xMe_s (hM hs) (xMs_told t1)) (xMs_told t2)) (xMs_told t3)
  have J0 : xJ B n sec L h I org G3 M σ3 [] σ3 := ⟨z3, xFy_r σ3, w2, fun hs _ => M3 hs⟩
  obtain ⟨σ4, u1, u2⟩ := xJ_top J0 hr D N nx h5 (fun hs => by rw [List.nil_append, len, g3]; exact hh hs)
  rw [List.nil_append] at u2
  obtain ⟨u3, u4, u5, u6⟩ := u2
  rw [len, g3] at u3
  rw [u1]
  have fw : xFw σ σ4 := xFw_t (xFw_t (xFw_t (xFw_told t1) (xFw_told t2)) (xFw_told t3)) (xFw_y u4)
  refine ⟨σ4, rfl, fw, xAt_y (xAt_c ha (fun k _ _ => (t3.1 k (by omega) (by omega)).trans ((t2.1 k (by omega) (by omega)).trans (t1.1 k (by omega) (by omega))))) u4, u3, by rw [← eG3]; exact u5, fun hs hg => ?_⟩
  obtain ⟨q1, q2, q3⟩ := sgn hs hg
  rw [q1] at g1
  have g3n : G3 = none := by rw [eG3, if_pos hs]; exact hg
  have b0 : e_bk g.2.2.2.1 ≠ 0 → fv_gw σ3 25 0 = v0 := fun c => (O3.1.2.2.2 (by have := g2.2.2.2.2.2.1 c; omega)).2.2.2 hs q2
  have b1 : e_bk g.2.2.2.2.2.1 ≠ 0 → fv_gw σ3 25 1 = v1 := fun c => (O3.2.1.2.2.2 (by have := g2.2.2.2.2.2.2.1 c; omega)).2.2.2 hs q3
  have eiv : (g.2.2.2.1 = 10 ∨ g.2.2.2.2.2.1 = 10) → iv = if g.2.2.2.1 = 10 then v0 else v1 := by
    intro hx
    rw [← hiv]
    have pick : ∀ (o c : Nat) (ev : Option (Nat × Nat)) (v : Int32) (pl : Nat), xOv sec o c ev v pl σ3 → (c = 3 ∨ c = 4) → ev = none → (c < 4 → v = 0) → (if fv_gw σ3 23 o = 0 then 0 else fv_gw σ3 25 o) = v := by
      intro o c ev v pl hv hc he hz
      rw [hv.2.2.1 (by omega)]
      rcases hc with e | e
      · rw [e, if_pos (show q01 (decide (4 ≤ 3)) = 0 by decide)]; exact (hz (by omega)).symm
      · rw [(hv.2.2.2 (by omega)).2.2.2 hs he, e, if_neg (show ¬ q01 (decide (4 ≤ 4)) = 0 by decide)]
    by_cases c : g.2.2.2.1 = 10
    · rw [if_pos c, if_pos c]
      exact pick 0 c0 ev0 v0 pl0 O3.1 (g2.2.2.2.1 c).1 q2 hv0
    · rw [if_neg c, if_neg c]
      exact pick 1 c1 ev1 v1 pl1 O3.2.1 (g2.2.2.2.2.1 (hx.resolve_left c)) q3 hv1
  have eq : qIl g iv (fv_gw σ3 25 0) (fv_gw σ3 25 1) nx = qIl g (if g.2.2.2.1 = 10 then v0 else v1) v0 v1 nx := by
    rw [qIl_c b0 b1]
    by_cases hx : g.2.2.2.1 = 10 ∨ g.2.2.2.2.2.1 = 10
    · rw [eiv hx]
    · unfold qIl qi0 qi1
      have n5 : ¬ 5 ≤ g.1 := fun e => hx (h5 e)
      have nx2 : ¬ (g.1 < 5 ∧ (g.2.2.2.1 = 10 ∨ g.2.2.2.2.2.1 = 10)) := fun e => hx e.2
      simp only [if_neg n5, if_neg nx2]
  refine ⟨g, g1, by rw [← eq, len, g3], ?_⟩
  rw [← eq]; exact u6 hs g3n
theorem xOv_d {B : Nat → Nat} {n : Nat} {sec : Bool} {L : List (List Nat × Int32)} {org o : Nat} {d : Nat × Nat × Bool × Nat × qOu} {σ : fv_S} (h : xOd B n sec L org o d.1 d.2.1 d.2.2.1 d.2.2.2.1 σ) (h6 : d.1 ≤ 6) (hp : 4 ≤ d.1 → qpl B n d ≤ 6000) : xOv sec o d.1 (qev B n (qen L org) d) (qva B n (qen L org) d) (qpl B n d) σ := by
  obtain ⟨h1, h2, h3, h4⟩ := h
  refine ⟨h1, h6, fun _ => h3, fun c => ?_⟩
  obtain ⟨a1, a2, a3⟩ := h4 c
  refine ⟨a1, hp c, fun hs => ?_, fun hs he => ?_⟩
  · unfold qev; rw [if_pos c]; exact a2 hs
  · unfold qev at he; rw [if_pos c] at he
    unfold qva; rw [if_pos c]; exact a3 hs he
theorem xOv_z {B : Nat → Nat} {n : Nat} {sec : Bool} {L : List (List Nat × Int32)} {org o : Nat} {σ : fv_S} (h : fv_gw σ 21 o = 0) : xOv sec o qdz.1 (qev B n (qen L org) qdz) (qva B n (qen L org) qdz) (qpl B n qdz) σ :=
  ⟨h, by show (0 : Nat) ≤ 6; omega, fun c => absurd c (show ¬ 3 ≤ (0 : Nat) by omega), fun c => absurd c (show ¬ 4 ≤ (0 : Nat) by omega)⟩
theorem xOO_s {B : Nat → Nat} {n p p' : Nat} (hS : qS B n) (hp : p ≤ n) {sec : Bool} {L : List (List Nat × Int32)} {org : Nat} {σ : fv_S} (ho : (qOm B n p).2 = .inr p') (H : xOs B n sec L org p (qOm B n p).1 σ) : xOO sec (qd0 B n p).1 (qd0 B n p).2.1 (qd1 B n p).1 (qd1 B n p).2.1 (qev B n (qen L org) (qd0 B n p)) (qev B n (qen L org) (qd1 B n p)) (qva B n (qen L org) (qd0 B n p)) (qva B n (qen L org) (qd1 B n p)) (qpl B n (qd0 B n p)) (qpl B n (qd1 B n p)) σ := by
  have hn := hS.1
  obtain ⟨u1, u2, u3, u4, u5⟩ := qd_pl hS hp ho
  obtain ⟨dl0, dl1, dl2, dl3⟩ := eD_le (qd_D B n p)
  obtain ⟨k1, k2, k3, k4⟩ := H
  have z1 : qdz.1 = 0 := rfl
  have A : xOv sec 0 (qd0 B n p).1 (qev B n (qen L org) (qd0 B n p)) (qva B n (qen L org) (qd0 B n p)) (qpl B n (qd0 B n p)) σ ∧ (1 ≤ (qd0 B n p).1 → (qd0 B n p).1 ≤ 4 → fv_gw σ 22 0 = Int32.ofNat (qd0 B n p).2.1) := by
    by_cases c : 1 ≤ (qOm B n p).1
    · have e : qd0 B n p = qOp B n p := if_pos c
      rw [e] at u3 dl0 ⊢
      exact ⟨xOv_d (k2 c) dl0 (fun c4 => by have := (u3 c4).1; omega), (k2 c).2.1⟩
    · have e : qd0 B n p = qdz := if_neg c
      rw [e]
      exact ⟨xOv_z (k1 (by omega)), fun h => absurd h (show ¬ 1 ≤ (0 : Nat) by omega)⟩
  have C : xOv sec 1 (qd1 B n p).1 (qev B n (qen L org) (qd1 B n p)) (qva B n (qen L org) (qd1 B n p)) (qpl B n (qd1 B n p)) σ ∧ (1 ≤ (qd1 B n p).1 → (qd1 B n p).1 ≤ 4 → fv_gw σ 22 1 = Int32.ofNat (qd1 B n p).2.1) := by
    by_cases c : 2 ≤ (qOm B n p).1
    · have e : qd1 B n p = qO2 B n p := if_pos c
      rw [e] at u4 dl2 ⊢
      exact ⟨xOv_d (k4 c) dl2 (fun c4 => by have := (u4 c4).1; omega), (k4 c).2.1⟩
    · have e : qd1 B n p = qdz := if_neg c
      rw [e]
      exact ⟨xOv_z (k3 (by omega)), fun h => absurd h (show ¬ 1 ≤ (0 : Nat) by omega)⟩
  exact ⟨A.1, C.1, A.2, C.2⟩
theorem qFi_lt {B : Nat → Nat} {n w p p' : Nat} (hS : qS B n) (hp : p ≤ n) (ho : (qOm B n p).2 = .inr p') {e : qEv} {nx : Int32} {f : p_F} {g : Nat × Nat} (h : qFi B n w e p nx f = some g) : g.2 < p' := by
  obtain ⟨u1, u2, u3, u4, u5⟩ := qd_pl hS hp ho
  have one : ∀ (d : Nat × Nat × Bool × Nat × qOu) (ok : Bool), (4 ≤ d.1 → qpl B n d < p' ∧ d.2.2.2.1 ≤ n ∧ ∀ e f, qev B n e d = some f → f.2 < p') → qEr (qev B n e d) (qpl B n d) d.1 ok = some g → g.2 < p' := by
    intro d ok hd hg
    unfold qEr at hg
    by_cases c : 4 ≤ d.1
    · rw [if_pos c] at hg
      cases hv : qev B n e d with
      | some x => rw [hv] at hg; exact (hd c).2.2 e g (hv.trans hg)
      | none =>
        rw [hv] at hg
        have hg : (if ok = true then none else some (5, qpl B n d)) = some g := hg
        cases ok with
        | true => exact absurd hg (by simp)
        | false =>
          have := Option.some.inj hg
          rw [← this]; exact (hd c).1
    · rw [if_neg c] at hg; exact absurd hg (by simp)
  unfold qFi at h
  cases hq : qEr (qev B n e (qd0 B n p)) (qpl B n (qd0 B n p)) (qd0 B n p).1 (qo0 w f.2.2.2.1 (qd0 B n p).1 (qva B n e (qd0 B n p)) nx) with
  | some x => rw [hq] at h; exact one _ _ u3 (hq.trans h)
  | none => rw [hq] at h; exact one _ _ u4 h
/-- an instruction, as the class reads it -/
theorem x_ins {B : Nat → Nat} {n N p w q : Nat} (hS : qS B n) (hN : 7000 ≤ N) (hw : w < 67) {sec : Bool} {L : List (List Nat × Int32)} {h : Nat} {I : List (Bool × Bool)} {org : Nat} {M : qMem} {σ : fv_S} (P : xP B n sec L h I org none p σ) (hF : pFm σ) (hq : fv_gi σ 1548 = Int32.ofNat q) (hqp : q < p) (hh6 : h ≤ 65536) (hM : sec = true → xMe M σ) (hst : sec = true → ∃ f p', (qOm B n p).2 = .inr p' ∧ (qT B n p').1 = 0 ∧ qFo B n w p = some f) (hh : sec = true → h + (qIn B n sec w q L org h p).2.1.length ≤ 65536) :
    xSo B n (qIn B n sec w q L org h p).1 (qIn B n sec w q L org h p).2.2 (fun σ' => xZ B n sec L (h + (qIn B n sec w q L org h p).2.1.length) I org σ' ∧ (sec = true → xMe (qlm (qIn B n sec w q L org h p).2.1 M h) σ')) σ (zX3_instruction N (Int32.ofNat w) σ) := by
  have hn := hS.1
  have hp := P.2.1.1
  obtain ⟨m1, m2, m3⟩ := qOs_m B n sec L org p
  obtain ⟨A, C⟩ := x_ros hS hN P
  rw [m2, m3] at A C
  rw [m1] at C
  have nos : sec = false → qoe (qOg B n sec L org (qd0 B n p)) (qOg B n sec L org (qd1 B n p)) = none := by
    intro hs
    rw [qOg_e, qOg_e, hs]; rfl
  have cont : ∀ {x : Nat × Nat}, (qOm B n p).2 = .inl x → sec = false := by
    intro x ho
    cases hs : sec with
    | false => rfl
    | true => obtain ⟨_, p', e, _⟩ := hst hs; rw [ho] at e; exact absurd e (by simp)
  unfold zX3_instruction
  cases ho : (qOm B n p).2 with
  | inl x =>
    have hs := cont ho
    rw [qIn_i ho]
    obtain ⟨σ', y1, y2, y3, y4, y5, y6⟩ := A x ho
    rw [y1, fv_bv_th]
    rw [nos hs] at y5
    exact ⟨σ', rfl, y2, y3, y4, y5, fun g hg => absurd hg (by simp)⟩
  | inr p' =>
    obtain ⟨σ1, x1, f1, s1, P1, O1⟩ := C p' ho
    have hp' := P1.2.1.1
    have hb := qT_b hS p' hp'
    obtain ⟨σ2, x2, f2, k2⟩ := x_end (N := N) hS hN P1.1.1 P1.2.1
    have P2 := xP_g P1 f2 (xAt_of hp' k2) (Nat.le_refl _)
    have fw2 := xFw_t f1 (xFw_g f2)
    have ms2 := xMs_t s1 (xMs_g f2)
    have gw2 : ∀ a, fv_gw σ2 a = fv_gw σ1 a := fun a => by show σ2.2.2.1 a = _; rw [f2.2]
    rw [x1, fv_bv_rv, x2, fv_bi_ri]
    by_cases c0 : (qT B n p').1 = 0
    · rw [c0, if_pos (show ¬ q01 ((0 : Nat) == 0) = 0 by decide)]
      have OO := xOO_c (xOO_s hS hp ho O1) (fun a _ _ => gw2 a)
      have F2 : pFm σ2 := pFm_c hF (fw2.1.1 391 (by omega) (by omega) (by omega)) (fun k h1 h2 => fw2.1.2.2 k (by omega))
      obtain ⟨u1, u2, u3, u4, u5⟩ := qd_pl hS hp ho
      have l0 : (qd0 B n p).1 < 4 → qev B n (qen L org) (qd0 B n p) = none := fun c => if_neg (by omega)
      have l1 : (qd1 B n p).1 < 4 → qev B n (qen L org) (qd1 B n p) = none := fun c => if_neg (by omega)
      cases hf : qFo B n w p with
      | none =>
        have hs : sec = false := by
          cases hs : sec with
          | false => rfl
          | true => obtain ⟨_, _, _, _, e⟩ := hst hs; rw [hf] at e; exact absurd e (by simp)
        rw [qIn_n ho c0 hf]
        have r2 := P2.2.2.1
        rw [nos hs] at r2
        obtain ⟨σ3, x3, r3, t3⟩ := x_chn P2.1.2.2.1 r2 hw OO.1
        rw [if_neg (fun e => by rw [hs] at e; exact absurd e.1 (by decide))] at r3
        have z3 := xZ_told P2.1 t3
        have O3 := xOO_c OO (fun a _ _ => gw_told t3 a)
        have F3 : pFm σ3 := pFm_c F2 (t3.1 391 (by omega) (by omega)) (fun k _ _ => gw_told t3 k)
        obtain ⟨dl0, dl1, dl2, dl3⟩ := eD_le (qd_D B n p)
        have anyi : true = true ↔ (fv_gi σ3 1541 = 0 ∨ (0 : Int32) < fv_gi σ3 1563) := ⟨fun _ => Or.inl (by rw [z3.2.2.1, hs]; rfl), fun _ => rfl⟩
        obtain ⟨r, x4, hr⟩ := x_form F3 (xOf_v (any := true) O3.1 O3.2.2.1 dl1 (fun e => absurd e (by decide))) (xOf_v (any := true) O3.2.1 O3.2.2.2 dl3 (fun e => absurd e (by decide))) anyi hN w hw
        have e696 : r = 696 := by
          rcases hr with ⟨_, e⟩ | ⟨e, _⟩
          · have e2 := eFd_u w (qd0 B n p).1 (qd0 B n p).2.1 (qd1 B n p).1 (qd1 B n p).2.1 (qU (qva B n (qen L org) (qd0 B n p))) 0
            unfold qFo at hf
            rw [hf] at e2
            unfold eFd at e2
            rw [e2] at e; exact absurd e (by simp)
          · exact e
        subst e696
        have e48 : fv_gi σ3 1548 = Int32.ofNat q := (t3.1 1548 (by omega) (by omega)).trans (fw2.2.2.trans hq)
        rw [x3, fv_bv_rv, x4, fv_bi_ri, if_neg (show ¬ (0 : Int32) ≤ qxi 696 696 by decide), e48]
        obtain ⟨σ5, x5, r5, t5⟩ := x_tell r3 (6, q) (by show 1 ≤ 6; omega) (by show 6 ≤ 9; omega) (by show q ≤ 6000; omega)
        rw [show zX3_tellFault 6 (Int32.ofNat q) σ3 = _ from x5, fv_bv_rv]
        have fw := xFw_t (xFw_t fw2 (xFw_told t3)) (xFw_told t5)
        have z5 := xZ_told z3 t5
        refine ⟨σ5, rfl, fw.2.1, fw.1, fw.2.2, z5.1, xAt_c P2.2.1 (fun k _ _ => (t5.1 k (by omega) (by omega)).trans (t3.1 k (by omega) (by omega))), r5, fun g hg => ?_, fun e => absurd e (by simp), fun _ => ?_⟩
        · have := Option.some.inj hg
          rw [← this]; show q < p'; omega
        · rw [z5.2.2.2.2.1]; exact (p_leN h 65536 (by omega) (by omega)).2 hh6
      | some f =>
        have hG0 : qoe (qOg B n sec L org (qd0 B n p)) (qOg B n sec L org (qd1 B n p)) = if sec = true then qoe (qev B n (qen L org) (qd0 B n p)) (qev B n (qen L org) (qd1 B n p)) else none := by
          rw [qOg_e, qOg_e]
          by_cases hs : sec = true
          · rw [if_pos hs, if_pos hs, if_pos hs]
          · rw [if_neg hs, if_neg hs, if_neg hs]; rfl
        have hl : sec = true → h + e_sz f ≤ 65536 := by
          intro hs
          have t := hh hs
          by_cases hg : qFi B n w (qen L org) p (Int32.ofNat (h + e_sz f)) f = none
          · rw [qIn_2 ho c0 hf hs hg] at t
            have t : h + (qIo B n w (qen L org) p (Int32.ofNat (h + e_sz f))).length ≤ 65536 := t
            have li := qIo_len (B := B) (n := n) (w := w) (p := p) hw hf hg
            omega
          · rw [qIn_3 ho c0 hf hs hg] at t
            have t : h + (List.replicate (e_sz f) 0).length ≤ 65536 := t
            rw [List.length_replicate] at t; exact t
        obtain ⟨σ3, x3, fw3, a3, z3, r3, m3⟩ := x_insF (p' := p') hN hw P2.1 P2.2.2.1 P2.2.1 OO (qd_D B n p) F2 (fun hs => xMe_s (hM hs) ms2) hf hG0 l0 l1 (fun a b => ⟨(u5 a b).1, fun f hf => (u5 a b).2.1 _ f hf, fun f hf => (u5 a b).2.2 _ f hf⟩) (fun c => if_neg (by omega)) (fun c => if_neg (by omega)) hl (Gs := qFi B n w (qen L org) p (Int32.ofNat (h + e_sz f)) f) rfl
        rw [x3]
        have fw := xFw_t fw2 fw3
        by_cases hs : sec = true
        · rw [if_pos hs] at r3
          by_cases hg : qFi B n w (qen L org) p (Int32.ofNat (h + e_sz f)) f = none
          · rw [qIn_2 ho c0 hf hs hg]
            rw [hg] at r3
            obtain ⟨g, g1, g2, g3⟩ := m3 hs hg
            have eo : qIo B n w (qen L org) p (Int32.ofNat (h + e_sz f)) = qIl g (if g.2.2.2.1 = 10 then qva B n (qen L org) (qd0 B n p) else qva B n (qen L org) (qd1 B n p)) (qva B n (qen L org) (qd0 B n p)) (qva B n (qen L org) (qd1 B n p)) (Int32.ofNat (h + e_sz f)) := by
              unfold qIo qFg
              rw [g1]
            refine ⟨σ3, rfl, fw.2.1, fw.1, fw.2.2, z3.1, a3, r3, fun _ e => absurd e (by simp), fun _ => ⟨?_, fun _ => ?_⟩, fun e => absurd rfl e⟩
            · show xZ B n sec L (h + (qIo B n w (qen L org) p (Int32.ofNat (h + e_sz f))).length) I org σ3
              rw [eo, g2]; exact z3
            · show xMe (qlm (qIo B n w (qen L org) p (Int32.ofNat (h + e_sz f))) M h) σ3
              rw [eo]; exact g3
          · rw [qIn_3 ho c0 hf hs hg]
            refine ⟨σ3, rfl, fw.2.1, fw.1, fw.2.2, z3.1, a3, r3, fun g e => qFi_lt hS hp ho e, fun e => absurd e hg, fun _ => ?_⟩
            rw [z3.2.2.2.2.1]; exact (p_leN _ 65536 (by have := hl hs; omega) (by omega)).2 (hl hs)
        · have hs' : sec = false := by cases hx : sec; rfl; exact absurd hx hs
          rw [if_neg hs] at r3
          rw [qIn_1 ho c0 hf hs']
          refine ⟨σ3, rfl, fw.2.1, fw.1, fw.2.2, z3.1, a3, r3, fun _ e => absurd e (by simp), fun _ => ⟨?_, fun e => absurd e hs⟩, fun e => absurd rfl e⟩
          show xZ B n sec L (h + (List.replicate (e_sz f) 0).length) I org σ3
          rw [List.length_replicate]; exact z3
    · have hs : sec = false := by
        cases hs : sec with
        | false => rfl
        | true =>
          obtain ⟨_, p2, e1, e2, _⟩ := hst hs
          rw [ho] at e1
          have := Sum.inr.inj e1
          rw [this] at c0; exact absurd e2 c0
      rw [qIn_w ho c0, show ((qT B n p').1 == 0) = false by simp [c0], if_neg (show ¬ ¬ q01 false = 0 by decide), x_wrong hb k2, fv_ba_ra]
      have wr : 1 ≤ qwr (qT B n p') ∧ qwr (qT B n p') ≤ 2 := by unfold qwr; split <;> omega
      have r2 := P2.2.2.1
      rw [nos hs] at r2
      exact xSo_th (qwr (qT B n p'), (qT B n p').2.1) fw2.2.1 fw2.1 ⟨wr.1, by show qwr (qT B n p') ≤ 9; omega, by show (qT B n p').2.1 ≤ 6000; have := hb.2.1; omega⟩ r2
