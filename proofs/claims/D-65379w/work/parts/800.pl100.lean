set_option maxRecDepth 100000
set_option maxHeartbeats 4000000
/-! The plain law: an instruction in the model. -/
theorem m_lin {B : Nat → Nat} {n N w p p' : Nat} (hS : qS B n) (hN : 7000 ≤ N) (hw : w < 67) {sec : Bool} {L : List (List Nat × Int32)} {h : Nat} {I : List (Bool × Bool)} {org : Nat} {M : qMem} {τ : fv_S} {f : p_F} (z : mZ B n sec L h I org τ) (hp : p ≤ n) (ho : (qOm B n p).2 = .inr p') (h28 : fv_gi τ 28 = Int32.ofNat (qOm B n p).1) (O0 : 1 ≤ (qOm B n p).1 → mOd B n 0 (qOp B n p).1 (qOp B n p).2.1 (qOp B n p).2.2.1 (qOp B n p).2.2.2.1 τ) (O1 : 2 ≤ (qOm B n p).1 → mOd B n 1 (qO2 B n p).1 (qO2 B n p).2.1 (qO2 B n p).2.2.1 (qO2 B n p).2.2.2.1 τ) (hf : qFo B n w p = some f) (hE : eE w f τ) (hG : eG w (qd0 B n p).1 (qd1 B n p).1 f)
    (hg : ∀ u, (e_pk w = 0 ∨ u ∈ e_us (e_pk w)) → ∃ g, eFd w (qd0 B n p).1 (qd0 B n p).2.1 (qd1 B n p).1 (qd1 B n p).2.1 false u = some g ∧ eE w g τ ∧ eG w (qd0 B n p).1 (qd1 B n p).1 g ∧ fv_gi τ 31 + Int32.ofNat (e_co (e_pk w) u) = Int32.ofNat g.2.1 ∧ e_sz g = e_sz f) (hM : mMe M τ) (hB : M.2.1 ≤ 2000000000 + h) (hl : h + e_sz f ≤ 65536) {nx : Int32} (hnx : nx = Int32.ofNat (h + e_sz f)) :
    (∀ F, qFi B n w (qen L org) p nx f = some F → mFx F τ (zX8_layInstruction N (Int32.ofNat (e_sz f)) τ)) ∧ (qFi B n w (qen L org) p nx f = none → ∃ τ', zX8_layInstruction N (Int32.ofNat (e_sz f)) τ = fv_ri 1 τ' ∧ mFo τ τ' ∧ fv_gi τ' 2 = fv_gi τ 2 ∧ mZ B n sec L (h + e_sz f) I org τ' ∧ mMe (qlm (qIo B n w (qen L org) p nx) M h) τ') := by
  have hD := qd_D B n p
  obtain ⟨u1, u2, u3, u4, u5⟩ := qd_pl hS hp ho
  obtain ⟨x1, x2⟩ := qd_ex (B := B) (n := n) (p := p) ho
  obtain ⟨N1, rfl⟩ : ∃ j, N = j + 3 := ⟨N - 3, by omega⟩
  have z0 := mZ_s z 55 0 (by omega)
  have f0 : mFo τ (fv_si τ 55 0) := mFo_si (mFo_r τ) 55 0 (by omega)
  have gi0 : ∀ k, k ≠ 55 → fv_gi (fv_si τ 55 0) k = fv_gi τ k := fun k hk => if_neg hk
  have g55 : fv_gi (fv_si τ 55 0) 55 = 0 := rfl
  have gw0 : ∀ a, fv_gw (fv_si τ 55 0) a = fv_gw τ a := fun _ => rfl
  have M0 : mMs τ (fv_si τ 55 0) := ⟨rfl, rfl, rfl⟩
  unfold zX8_layInstruction
  generalize hs0 : fv_si τ 55 0 = s0 at *
  generalize hv0 : qva B n (qen L org) (qd0 B n p) = v0
  generalize hv1 : qva B n (qen L org) (qd1 B n p) = v1
  have bk0 := hG.2.2.2.2.2.1
  have loop : ∀ (k : Nat) (a b c : Int32) (s : fv_S), zX8_layInstruction_12 (N1 + 3) (k + 1) a b c s = zX8_layInstruction_12_b (N1 + 3) (zX8_layInstruction_12 (N1 + 3) k) a b c s := fun _ _ _ _ _ => rfl
  -- the end
  have FIN : ∀ (K : Int32 → Int32 → Int32 → fv_S → Option fv_O) (x : Int32) (s : fv_S), mFk s0 s → mZ B n sec L h I org s → x = Int32.ofNat (qOm B n p).1 → fv_gi s 55 = (if e_pk w = 0 then 0 else v0) → (f.2.2.2.1 = 10 → fv_gi s 56 = v0) → (f.2.2.2.2.2.1 = 10 → fv_gi s 56 = v1) → (e_bk f.2.2.2.1 ≠ 0 → fv_gi s 57 = if e_bk f.2.2.2.1 = 3 then (Int32.toInt16 (v0 - nx)).toInt32 else v0) → (e_bk f.2.2.2.2.2.1 ≠ 0 → fv_gi s 57 = if e_bk f.2.2.2.2.2.1 = 3 then (Int32.toInt16 (v1 - nx)).toInt32 else v1) → qFi B n w (qen L org) p nx f = none → ∃ τ', zX8_layInstruction_12_b (N1 + 3) K (Int32.ofNat (e_sz f)) (fv_gi τ 2) x s = fv_ri 1 τ' ∧ mFo τ τ' ∧ fv_gi τ' 2 = fv_gi τ 2 ∧ mZ B n sec L (h + e_sz f) I org τ' ∧ mMe (qlm (qIo B n w (qen L org) p nx) M h) τ' := by
    intro K x s fk zs hx q55 q56 q56' q57 q57' hq
    obtain ⟨_, _, _, _, hu⟩ := qFg_f hw hf hq
    rw [hv0] at hu
    obtain ⟨g, g1, g2, g3, g4, g5⟩ := hg _ hu
    have sm := e_same g2 hE g3 hG
    have keep : ∀ k, 25 ≤ k → k < 55 → fv_gi s k = fv_gi τ k := fun k a b => (fk.1 k (by omega) (by omega) (by omega) (by omega) (by omega) (by omega) (by omega) (by omega)).trans (gi0 k (by omega))
    have ms : mMs τ s := mMs_t M0 (mMs_k fk)
    obtain ⟨τ', y1, y2, y3, y4, y5⟩ := m_fin2 (N := N1 + 3) (w := w) (g := g) (v0 := v0) (v1 := v1) (nx := nx) (iv := if g.2.2.2.1 = 10 then v0 else v1) zs (mMe_s hM ms) hB (by rw [g5]; exact hl) (eE_k g2 (fun k a b => keep k (by omega) (by omega))) g3 hu (by rw [keep 31 (by omega) (by omega)]; exact g4) q55 (fun hx => by
      by_cases c : g.2.2.2.1 = 10
      · rw [if_pos c]; exact q56 (sm.1.2.1 c)
      · rw [if_neg c]; exact q56' (sm.2.2.1 (hx.resolve_left c))) (fun hb => by rw [sm.1.1] at hb ⊢; exact q57 hb) (fun hb => by rw [sm.2.1] at hb ⊢; exact q57' hb) (fv_gi τ 2)
    unfold zX8_layInstruction_12_b
    rw [if_pos (show fv_gi s 28 ≤ x by rw [keep 28 (by omega) (by omega), h28, hx]; exact Int32.le_refl _), y1]
    have eo : qIo B n w (qen L org) p nx = qIl g (if g.2.2.2.1 = 10 then v0 else v1) v0 v1 nx := by
      unfold qIo qFg
      rw [hv0, hv1, g1]
    rw [g5] at y4
    exact ⟨τ', rfl, mFo_t (mFo_t f0 (mFo_k fk)) y2, y3, y4, by rw [eo]; exact y5⟩
  -- one operand
  have part0 : ∀ b : Bool, b = decide (e_pk w ≠ 0 ∧ (0 : Nat) = 0) → (b = true ↔ e_pk w ≠ 0) := fun b hb => by rw [hb]; exact ⟨fun h => (of_decide_eq_true h).1, fun h => decide_eq_true ⟨h, rfl⟩⟩
  have okq : qo0 w f.2.2.2.1 (qd0 B n p).1 v0 nx = ((!decide (e_pk w ≠ 0 ∧ (0 : Nat) = 0) || qRp (e_pk w) v0) && qRk f.2.2.2.1 v0 nx) := by
    unfold qo0
    by_cases c : e_pk w = 0
    · have e : ∀ b : Bool, (b || qRp (e_pk w) v0) = true := fun b => by rw [c]; cases b <;> rfl
      rw [e, e]
    · rw [decide_eq_true (hG.1 c).1, decide_eq_true (show e_pk w ≠ 0 ∧ (0 : Nat) = 0 from ⟨c, rfl⟩)]
  have qfi : qFi B n w (qen L org) p nx f = qoe (qEr (qev B n (qen L org) (qd0 B n p)) (qpl B n (qd0 B n p)) (qd0 B n p).1 ((!decide (e_pk w ≠ 0 ∧ (0 : Nat) = 0) || qRp (e_pk w) v0) && qRk f.2.2.2.1 v0 nx)) (qEr (qev B n (qen L org) (qd1 B n p)) (qpl B n (qd1 B n p)) (qd1 B n p).1 (qRk f.2.2.2.2.2.1 v1 nx)) := by
    unfold qFi; rw [hv0, hv1, okq]
  have zc : ∀ (ev : Option (Nat × Nat)) (pl : Nat) (ok : Bool), qEr ev pl qdz.1 ok = none := fun _ _ _ => if_neg (show ¬ 4 ≤ (0 : Nat) by omega)
  have W0 : 1 ≤ (qOm B n p).1 → (∀ F, qEr (qev B n (qen L org) (qd0 B n p)) (qpl B n (qd0 B n p)) (qd0 B n p).1 ((!decide (e_pk w ≠ 0 ∧ (0 : Nat) = 0) || qRp (e_pk w) v0) && qRk f.2.2.2.1 v0 nx) = some F → mFx F s0 (zX8_work (N1 + 3) (Int32.ofNat 0) (Int32.ofNat (e_sz f)) s0)) ∧ (qEr (qev B n (qen L org) (qd0 B n p)) (qpl B n (qd0 B n p)) (qd0 B n p).1 ((!decide (e_pk w ≠ 0 ∧ (0 : Nat) = 0) || qRp (e_pk w) v0) && qRk f.2.2.2.1 v0 nx) = none → ∃ τ', zX8_work (N1 + 3) (Int32.ofNat 0) (Int32.ofNat (e_sz f)) s0 = fv_ri 1 τ' ∧ mWk B n sec L h I org (qd0 B n p).1 (e_bk f.2.2.2.1) (decide (e_pk w ≠ 0 ∧ (0 : Nat) = 0)) v0 ((Int32.toInt16 (v0 - nx)).toInt32) s0 τ') := by
    intro hm
    have e : qd0 B n p = qOp B n p := if_pos hm
    rw [e] at u3 x1 hG hD hv0 ⊢
    have inD : ((qOp B n p).1, (qOp B n p).2.1) ∈ e_D := qOp_D B n p
    have O := O0 hm
    have Os : mOd B n 0 (qOp B n p).1 (qOp B n p).2.1 (qOp B n p).2.2.1 (qOp B n p).2.2.2.1 s0 := mOd_c O (fun a _ _ => by rw [gw0])
    refine m_work (N := N1 + 3) hS hN z0 (o := 0) (by omega) Os inD (fun c4 => ⟨(u3 c4).2.1, x1 c4⟩) (pk := e_pk w) (k := f.2.2.2.1) rfl (e_pk4 w) ((gi0 34 (by omega)).trans hE.2.2.2.1) (fun hx => (gi0 35 (by omega)).trans (hE.2.2.2.2.2 hx)) (fun hb => by rw [gi0 32 (by omega), hE.2.2.1, (hG.2.2.2.2.2.1 hb).2, Nat.add_zero]) (fun hx => hG.1 ((part0 _ rfl).1 hx)) hG.2.1 (fun hx => (hG.2.2.2.1 hx).1) (fun hx => (hG.2.2.2.2.2.1 hx).1) (fun hx hy => hG.2.2.2.2.2.2.2.2.1 hx (by
        by_cases c : e_pk w = 0
        · exact c
        · rw [(part0 _ rfl).2 c] at hy; exact absurd hy (by decide))) rfl (by rw [← hv0]; rfl) (fun hx => qOp_neg hx) hnx
  have W1 : 2 ≤ (qOm B n p).1 → ∀ s, mFk s0 s → mZ B n sec L h I org s → (∀ F, qEr (qev B n (qen L org) (qd1 B n p)) (qpl B n (qd1 B n p)) (qd1 B n p).1 (qRk f.2.2.2.2.2.1 v1 nx) = some F → mFx F s (zX8_work (N1 + 3) (Int32.ofNat 1) (Int32.ofNat (e_sz f)) s)) ∧ (qEr (qev B n (qen L org) (qd1 B n p)) (qpl B n (qd1 B n p)) (qd1 B n p).1 (qRk f.2.2.2.2.2.1 v1 nx) = none → ∃ τ', zX8_work (N1 + 3) (Int32.ofNat 1) (Int32.ofNat (e_sz f)) s = fv_ri 1 τ' ∧ mWk B n sec L h I org (qd1 B n p).1 (e_bk f.2.2.2.2.2.1) false v1 ((Int32.toInt16 (v1 - nx)).toInt32) s τ') := by
    intro hm s fk zs
    have e : qd1 B n p = qO2 B n p := if_pos hm
    rw [e] at u4 x2 hG hD hv1 ⊢
    have inD : ((qO2 B n p).1, (qO2 B n p).2.1) ∈ e_D := by
      rcases hD with hh | hh | hh
      · omega
      · omega
      · exact hh.2.2
    have neg2 : (qO2 B n p).2.2.1 = true → (qO2 B n p).1 = 4 := by
      unfold qO2
      cases (qOp B n p).2.2.2.2 with
      | inl _ => intro hx; exact absurd (show false = true from hx) (by decide)
      | inr p1 => intro hx; exact qOp_neg hx
    have O := O1 hm
    have Os : mOd B n 1 (qO2 B n p).1 (qO2 B n p).2.1 (qO2 B n p).2.2.1 (qO2 B n p).2.2.2.1 s := mOd_c O (fun a ha hb => by rw [fk.2.2.1 a (by omega) (by omega) (by omega), gw0])
    have keep : ∀ k, 25 ≤ k → k < 55 → fv_gi s k = fv_gi τ k := fun k a b => (fk.1 k (by omega) (by omega) (by omega) (by omega) (by omega) (by omega) (by omega) (by omega)).trans (gi0 k (by omega))
    have R := m_work (N := N1 + 3) hS hN zs (o := 1) (by omega) Os inD (fun c4 => ⟨(u4 c4).2.1, x2 c4⟩) (pk := e_pk w) (k := f.2.2.2.2.2.1) (part := false) (decide_eq_false (fun hx => absurd hx.2 (by omega))).symm (e_pk4 w) ((keep 34 (by omega) (by omega)).trans hE.2.2.2.1) (fun hx => (keep 35 (by omega) (by omega)).trans (hE.2.2.2.2.2 hx)) (fun hb => by
        rw [keep 32 (by omega) (by omega), hE.2.2.1]
        have : e_bk f.2.2.2.1 = 0 := by
          by_cases c : e_bk f.2.2.2.1 = 0
          · exact c
          · exact absurd (hG.2.2.2.2.2.1 c).2 hb
        rw [this, Nat.zero_add]) (fun hx => absurd hx (by decide)) hG.2.2.1 hG.2.2.2.2.1 hG.2.2.2.2.2.2.1 (fun hx _ => hG.2.2.2.2.2.2.2.1 hx) (nx := nx) rfl (v := v1) (by rw [← hv1]; rfl) neg2 hnx
    exact R
  have k28 : ∀ s, mFk s0 s → fv_gi s 28 = Int32.ofNat (qOm B n p).1 := fun s fk => ((fk.1 28 (by omega) (by omega) (by omega) (by omega) (by omega) (by omega) (by omega) (by omega)).trans (gi0 28 (by omega))).trans h28
  have sum0 : ∀ (a b : Option (Nat × Nat)), qoe a b = none → a = none ∧ b = none := by
    intro a b hq
    cases a with
    | none => exact ⟨rfl, hq⟩
    | some x => exact absurd hq (by unfold qoe; simp)
  have z1e : (qOm B n p).1 ≤ 1 → qd1 B n p = qdz := fun hm => if_neg (by omega)
  have z0e : (qOm B n p).1 = 0 → qd0 B n p = qdz := fun hm => if_neg (by omega)
  have no1 : (qOm B n p).1 ≤ 1 → f.2.2.2.2.2.1 ≠ 10 ∧ e_bk f.2.2.2.2.2.1 = 0 := by
    intro hm
    rw [z1e hm] at hG
    refine ⟨fun e => ?_, ?_⟩
    · have := hG.2.2.2.2.1 e
      have zz : qdz.1 = 0 := rfl
      omega
    · by_cases c : e_bk f.2.2.2.2.2.1 = 0
      · exact c
      · have := hG.2.2.2.2.2.2.1 c
        have zz : qdz.1 = 0 := rfl
        omega
  have no0 : (qOm B n p).1 = 0 → f.2.2.2.1 ≠ 10 ∧ e_bk f.2.2.2.1 = 0 ∧ e_pk w = 0 := by
    intro hm
    rw [z0e hm] at hG
    have zz : qdz.1 = 0 := rfl
    refine ⟨fun e => ?_, ?_, ?_⟩
    · have := (hG.2.2.2.1 e).1; omega
    · by_cases c : e_bk f.2.2.2.1 = 0
      · exact c
      · have := (hG.2.2.2.2.2.1 c).1; omega
    · by_cases c : e_pk w = 0
      · exact c
      · have := (hG.1 c).1; omega
  have p55 : ∀ s s' : fv_S, fv_gi s 55 = (if decide (e_pk w ≠ 0 ∧ (0 : Nat) = 0) = true then v0 else fv_gi s' 55) → fv_gi s' 55 = 0 → fv_gi s 55 = if e_pk w = 0 then 0 else v0 := by
    intro s s' a b
    rw [a, b]
    by_cases c : e_pk w = 0
    · rw [if_pos c, if_neg (fun e => (of_decide_eq_true e).1 c)]
    · rw [if_neg c, if_pos (decide_eq_true ⟨c, rfl⟩)]
  rw [show zX8_layInstruction_12 (N1 + 3) (N1 + 3) (Int32.ofNat (e_sz f)) (fv_gi τ 2) 0 s0 = _ from loop (N1 + 2) _ _ _ _]
  rcases qOm_n B n p with m0 | m1 | m2
  · -- no operand
    obtain ⟨a1, a2, a3⟩ := no0 m0
    obtain ⟨b1, b2⟩ := no1 (by omega)
    have qn : qFi B n w (qen L org) p nx f = none := by rw [qfi, z0e m0, z1e (by omega), zc, zc]; rfl
    refine ⟨fun F hF => by rw [qn] at hF; exact absurd hF (by simp), fun hq => ?_⟩
    exact FIN _ 0 s0 (mFk_r s0) z0 (by rw [m0]; rfl) (by rw [if_pos a3]; exact g55) (fun e => absurd e a1) (fun e => absurd e b1) (fun e => absurd a2 e) (fun e => absurd b2 e) hq
  · -- one
    obtain ⟨b1, b2⟩ := no1 (by omega)
    obtain ⟨A, C⟩ := W0 (by omega)
    rw [z1e (by omega), zc, qoe_n] at qfi
    rw [← qfi] at A C
    have st : zX8_layInstruction_12_b (N1 + 3) (zX8_layInstruction_12 (N1 + 3) (N1 + 2)) (Int32.ofNat (e_sz f)) (fv_gi τ 2) 0 s0 = fv_bi (zX8_work (N1 + 3) (Int32.ofNat 0) (Int32.ofNat (e_sz f)) s0) (fun r9 σ8 => if ¬ r9 = 0 then zX8_layInstruction_12 (N1 + 3) (N1 + 2) (Int32.ofNat (e_sz f)) (fv_gi τ 2) (0 + (1 : Int32)) σ8 else fv_ri 0 σ8) fv_no := by
      conv => lhs; unfold zX8_layInstruction_12_b
      rw [if_neg (show ¬ fv_gi s0 28 ≤ 0 by rw [k28 s0 (mFk_r s0), m1]; decide)]
      rfl
    rw [st]
    refine ⟨fun F hF => mFx_t f0 (mFx_n (A F hF) _), fun hq => ?_⟩
    obtain ⟨s, y1, y2, y3, y4, y5, y6⟩ := C hq
    rw [y1, fv_bi_ri, if_pos (show ¬ (1 : Int32) = 0 by decide)]
    refine FIN _ _ s y2 y3 (by rw [m1]; rfl) (p55 s s0 y4 g55) (fun e => ?_) (fun e => absurd e b1) (fun e => ?_) (fun e => absurd b2 e) hq
    · rw [y5, if_pos (hG.2.2.2.1 e).1]
    · rw [y6, if_neg e]
  · -- two
    obtain ⟨A, C⟩ := W0 (by omega)
    have st : ∀ s, fv_gi s 28 = Int32.ofNat 2 → ∀ (k : Nat) (x : Nat), x < 2 → zX8_layInstruction_12_b (N1 + 3) (zX8_layInstruction_12 (N1 + 3) k) (Int32.ofNat (e_sz f)) (fv_gi τ 2) (Int32.ofNat x) s = fv_bi (zX8_work (N1 + 3) (Int32.ofNat x) (Int32.ofNat (e_sz f)) s) (fun r9 σ8 => if ¬ r9 = 0 then zX8_layInstruction_12 (N1 + 3) k (Int32.ofNat (e_sz f)) (fv_gi τ 2) (Int32.ofNat x + (1 : Int32)) σ8 else fv_ri 0 σ8) fv_no := by
      intro s h2 k x hx
      conv => lhs; unfold zX8_layInstruction_12_b
      rw [if_neg (show ¬ fv_gi s 28 ≤ Int32.ofNat x by rw [h2]; exact fun e => by have := (p_leN 2 x (by omega) (by omega)).1 e; omega)]
    rw [show zX8_layInstruction_12_b (N1 + 3) (zX8_layInstruction_12 (N1 + 3) (N1 + 2)) (Int32.ofNat (e_sz f)) (fv_gi τ 2) 0 s0 = _ from st s0 (by rw [k28 s0 (mFk_r s0), m2]) (N1 + 2) 0 (by omega)]
    rw [qfi]
    cases hq0 : qEr (qev B n (qen L org) (qd0 B n p)) (qpl B n (qd0 B n p)) (qd0 B n p).1 ((!decide (e_pk w ≠ 0 ∧ (0 : Nat) = 0) || qRp (e_pk w) v0) && qRk f.2.2.2.1 v0 nx) with
    | some F0 =>
      refine ⟨fun F hF => ?_, fun hF => absurd (show some F0 = none from hF) (by simp)⟩
      have := Option.some.inj (show some F0 = some F from hF)
      subst this
      exact mFx_t f0 (mFx_n (A F0 hq0) _)
    | none =>
      obtain ⟨s, y1, y2, y3, y4, y5, y6⟩ := C hq0
      rw [y1, fv_bi_ri, if_pos (show ¬ (1 : Int32) = 0 by decide)]
      obtain ⟨A1, C1⟩ := W1 (by omega) s y2 y3
      rw [show zX8_layInstruction_12 (N1 + 3) (N1 + 2) (Int32.ofNat (e_sz f)) (fv_gi τ 2) (Int32.ofNat 0 + 1) s = _ from loop (N1 + 1) _ _ _ _]
      rw [show zX8_layInstruction_12_b (N1 + 3) (zX8_layInstruction_12 (N1 + 3) (N1 + 1)) (Int32.ofNat (e_sz f)) (fv_gi τ 2) (Int32.ofNat 0 + 1) s = _ from st s (by rw [k28 s y2, m2]) (N1 + 1) 1 (by omega)]
      refine ⟨fun F hF => mFx_t (mFo_t f0 (mFo_k y2)) (mFx_n (A1 F hF) _), fun hF => ?_⟩
      have hq1 : qEr (qev B n (qen L org) (qd1 B n p)) (qpl B n (qd1 B n p)) (qd1 B n p).1 (qRk f.2.2.2.2.2.1 v1 nx) = none := hF
      have hq : qFi B n w (qen L org) p nx f = none := by rw [qfi, hq0]; exact hq1
      obtain ⟨t, w1, w2, w3, w4, w5, w6⟩ := C1 hq1
      rw [w1, fv_bi_ri, if_pos (show ¬ (1 : Int32) = 0 by decide)]
      rw [show zX8_layInstruction_12 (N1 + 3) (N1 + 1) (Int32.ofNat (e_sz f)) (fv_gi τ 2) (Int32.ofNat 1 + 1) t = _ from loop N1 _ _ _ _]
      refine FIN _ _ t (mFk_t y2 w2) w3 (by rw [m2]; rfl) ?_ (fun e => ?_) (fun e => ?_) (fun e => ?_) (fun e => ?_) hq
      · exact p55 t s0 (by rw [w4, if_neg (by decide)]; exact y4) g55
      · have nc := e_k3 hf hG e
        rw [w5, if_neg (fun x => x.elim nc.1 nc.2), y5, if_pos (hG.2.2.2.1 e).1]
      · rw [w5, if_pos (hG.2.2.2.2.1 e)]
      · rw [w6, if_pos (bk0 e).2, y6, if_neg e]
      · rw [w6, if_neg e]
theorem mZ_ef {B : Nat → Nat} {n : Nat} {sec : Bool} {L : List (List Nat × Int32)} {h : Nat} {I : List (Bool × Bool)} {org : Nat} {τ τ' : fv_S} (z : mZ B n sec L h I org τ) (f : eF τ τ') : mZ B n sec L h I org τ' := by
  obtain ⟨z1, z2, z3, z4, z5, z6, z7, z8⟩ := z
  have g := f.1
  have gw : ∀ a, fv_gw τ' a = fv_gw τ a := fun a => by show τ'.2.2.1 a = _; rw [f.2]
  exact ⟨⟨(g 1 (by omega)).trans z1.1, by rw [gw]; exact z1.2⟩, ⟨(g 13 (by omega)).trans z2.1, z2.2.1, by rw [gw, gw, gw]; exact z2.2.2⟩, (g _ (by omega)).trans z3, (g _ (by omega)).trans z4, (g _ (by omega)).trans z5, (g _ (by omega)).trans z6, (g _ (by omega)).trans z7, mIf_c I τ _ (fun i _ => by rw [gw, gw]; exact ⟨rfl, rfl⟩) z8⟩
/-- an instruction, as the model reads it -/
theorem m_ins {B : Nat → Nat} {n N p w q : Nat} (hS : qS B n) (hN : 7000 ≤ N) (hw : w < 67) {sec : Bool} {L : List (List Nat × Int32)} {h : Nat} {I : List (Bool × Bool)} {org : Nat} {M : qMem} {τ : fv_S} (hh6 : h ≤ 65536) (z : mZ B n sec L h I org τ) (k : qMt B (qT B n p) τ) (hp : p ≤ n) (hM : sec = true → mMe M τ) (hB : sec = true → M.2.1 ≤ 2000000000 + h) (hst : sec = true → ∃ f p', (qOm B n p).2 = .inr p' ∧ (qT B n p').1 = 0 ∧ qFo B n w p = some f) (hh : sec = true → h + (qIn B n sec w q L org h p).2.1.length ≤ 65536) :
    mSo B n (qLF B n (qIn B n sec w q L org h p).1 (qIn B n sec w q L org h p).2.2 (h + (qIn B n sec w q L org h p).2.1.length) q) (qIn B n sec w q L org h p).2.2 (fun τ' => mZ B n sec L (h + (qIn B n sec w q L org h p).2.1.length) I org τ' ∧ (sec = true → mMe (qlm (qIn B n sec w q L org h p).2.1 M h) τ') ∧ (sec = false → mMs τ τ')) τ (zX8_statement_39 N (Int32.ofNat q) (qwd (p_nm w)) τ) := by
  have hn := hS.1
  obtain ⟨m1, m2, m3⟩ := qOs_m B n sec L org p
  obtain ⟨A, C⟩ := m_ros (N := N) hS hN z k hp
  rw [m2] at A C
  rw [m1] at C
  have bk : ∀ k, e_bk k ≤ 3 := fun k => by unfold e_bk; cases (Nat.beq k 4 || Nat.beq k 8) <;> cases (Nat.beq k 5 || Nat.beq k 7) <;> cases Nat.beq k 6 <;> decide
  unfold zX8_statement_39
  cases ho : (qOm B n p).2 with
  | inl x =>
    rw [qIn_i ho]
    exact mFx_n (A x ho) _
  | inr p' =>
    obtain ⟨C1, C2⟩ := C p' ho
    by_cases c0 : (qT B n p').1 = 0
    · obtain ⟨τ1, x1, f1, s1, z1, k1, hp', g28, O0, O1⟩ := C2 c0
      rw [x1, fv_bi_ri, if_pos (show ¬ (1 : Int32) = 0 by decide)]
      have e0 : 1 ≤ (qOm B n p).1 → qd0 B n p = qOp B n p := fun hm => if_pos hm
      have e1 : 2 ≤ (qOm B n p).1 → qd1 B n p = qO2 B n p := fun hm => if_pos hm
      obtain ⟨τ2, f2, hen⟩ := m_enf (B := B) (n := n) (w := w) hw (neg0 := (qd0 B n p).2.2.1) (pe0 := (qd0 B n p).2.2.2.1) (neg1 := (qd1 B n p).2.2.1) (pe1 := (qd1 B n p).2.2.2.1) (qd_D B n p) g28 (fun hm => by rw [e0 hm]; exact O0 hm) (fun hm => by rw [e1 hm]; exact O1 hm)
      have gw2 : ∀ a, fv_gw τ2 a = fv_gw τ1 a := fun a => by show τ2.2.2.1 a = _; rw [f2.2]
      have z2 := mZ_ef z1 f2
      have fo2 : mFo τ τ2 := mFo_t f1 ⟨fun k hk => f2.1 k (by omega), fun k _ => by show τ2.2.1 k = _; rw [f2.2], fun a _ => gw2 a, by show τ2.2.2.2 = _; rw [f2.2]⟩
      have ms2 : mMs τ τ2 := mMs_t s1 ⟨gw2 14, f2.1 39 (by omega), f2.1 40 (by omega)⟩
      have g2 : fv_gi τ2 2 = Int32.ofNat (qT B n p').2.2.1 := (f2.1 2 (by omega)).trans k1.1.1
      rcases hen with ⟨y1, y2⟩ | ⟨f, y1, y2, y3, y4, y5⟩
      · rw [y1, fv_bi_ri, if_neg (show ¬ ¬ (0 : Int32) = 0 from not_not_intro rfl), qIn_n ho c0 y2]
        exact mFx_t fo2 (mFx_w z2.2.2.2.2.2.1 (6, q) ⟨by show 1 ≤ 6; omega, by show 6 ≤ 9; omega⟩)
      · have hP : f.1 ≤ 6 := y4.2.2.2.2.2.2.2.2.2.2.2.1
        have hf : qFo B n w p = some f := y2
        have sz : e_sz f ≤ 20 := by
          have := bk f.2.2.2.1
          have := bk f.2.2.2.2.2.1
          have bz : ∀ b, b ≤ 3 → e_bz b ≤ 3 := by decide
          have := bz _ (bk f.2.2.2.1)
          have := bz _ (bk f.2.2.2.2.2.1)
          unfold e_sz
          have a1 : (bif Nat.beq f.1 0 then 1 else bif Nat.ble 5 f.1 then 3 else 2) ≤ 3 := by cases Nat.beq f.1 0 <;> cases Nat.ble 5 f.1 <;> decide
          have a2 : (bif e_ix f then 1 else 0) ≤ 1 := by cases e_ix f <;> decide
          omega
        rw [y1, fv_bi_ri, if_pos (show ¬ (1 : Int32) = 0 by decide), m_lgt y3 hP (fun e => (y4.2.2.2.2.2.1 e).2), fv_bi_ri, z2.2.2.2.1, ← Int32.ofNat_add, z2.2.2.1]
        have h31 : Int32.ofNat (h + e_sz f) ≤ 65536 ↔ h + e_sz f ≤ 65536 := p_leN _ 65536 (by omega) (by omega)
        by_cases hs : sec = true
        · have li : (qIn B n sec w q L org h p).2.1.length = e_sz f := by
            by_cases hg : qFi B n w (qen L org) p (Int32.ofNat (h + e_sz f)) f = none
            · rw [qIn_2 ho c0 hf hs hg]; exact qIo_len hw hf hg
            · rw [qIn_3 ho c0 hf hs hg]; exact List.length_replicate
          have hl : h + e_sz f ≤ 65536 := by have := hh hs; rw [li] at this; exact this
          rw [if_pos (h31.2 hl), if_pos (show ¬ q01 sec = 0 by rw [hs]; decide), li]
          obtain ⟨P, Q⟩ := m_lin (N := N) (w := w) (nx := Int32.ofNat (h + e_sz f)) hS hN hw z2 hp ho ((f2.1 28 (by omega)).trans g28) (fun hm => mOd_c (O0 hm) (fun a _ _ => by rw [gw2])) (fun hm => mOd_c (O1 hm) (fun a _ _ => by rw [gw2])) hf y3 y4 y5 (mMe_s (hM hs) ms2) (hB hs) hl rfl
          by_cases hg : qFi B n w (qen L org) p (Int32.ofNat (h + e_sz f)) f = none
          · obtain ⟨τ3, w1, w2, w3, w4, w5⟩ := Q hg
            rw [qIn_2 ho c0 hf hs hg]
            show mSo B n (if (qT B n p').1 = 0 then (if 65536 < h + e_sz f then some (8, q) else none) else _) _ _ _ _
            rw [if_pos c0, if_neg (by omega), w1, fv_bi_ri, if_pos (Or.inr rfl)]
            exact ⟨p', τ3, rfl, c0, hp', rfl, mFo_t fo2 w2, w3.trans g2, w4, fun _ => w5, fun e => by rw [hs] at e; exact absurd e (by decide)⟩
          · rw [qIn_3 ho c0 hf hs hg]
            cases hx : qFi B n w (qen L org) p (Int32.ofNat (h + e_sz f)) f with
            | none => exact absurd hx hg
            | some F => exact mFx_t fo2 (mFx_b (P F hx))
        · have hs' : sec = false := by cases hx : sec; rfl; exact absurd hx hs
          rw [qIn_1 ho c0 hf hs']
          show mSo B n (if (qT B n p').1 = 0 then (if 65536 < h + (List.replicate (e_sz f) 0).length then some (8, q) else none) else _) _ (fun τ' => mZ B n sec L (h + (List.replicate (e_sz f) 0).length) I org τ' ∧ _) _ _
          rw [if_pos c0, List.length_replicate]
          by_cases cl : h + e_sz f ≤ 65536
          · rw [if_neg (by omega), if_pos (h31.2 cl), if_neg (show ¬ ¬ q01 sec = 0 by rw [hs']; decide)]
            refine ⟨p', _, rfl, c0, hp', rfl, mFo_si fo2 20 _ (by omega), g2, ?_, fun e => absurd e hs, fun _ => mMs_t ms2 ⟨rfl, rfl, rfl⟩⟩
            obtain ⟨a1, a2, a3, a4, a5, a6, a7, a8⟩ := z2
            exact ⟨⟨a1.1, a1.2⟩, ⟨a2.1, a2.2⟩, a3, rfl, a5, a6, a7, mIf_c I τ2 _ (fun _ _ => ⟨rfl, rfl⟩) a8⟩
          · rw [if_pos (by omega), if_neg (fun e => cl (h31.1 e))]
            exact mFx_t fo2 (mFx_w z2.2.2.2.2.2.1 (8, q) ⟨by show 1 ≤ 8; omega, by show 8 ≤ 9; omega⟩)
    · rw [qIn_w ho c0]
      show mSo B n (some (qwr (qT B n p'), (qT B n p').2.1)) _ _ _ _
      exact mFx_n (C1 c0) _
