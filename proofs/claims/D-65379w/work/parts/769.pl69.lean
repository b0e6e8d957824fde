set_option maxRecDepth 100000
set_option maxHeartbeats 4000000
/-! The plain law: octets are laid. -/
def qoc (b : Int32) : Nat := (b &&& 255).toNatClampNeg
theorem qoc_e (b : Int32) : Int32.ofNat (qoc b) = b &&& 255 ∧ qoc b < 256 := by
  obtain ⟨m, hm, e⟩ := pb_n (pb_a255 b)
  unfold qoc
  rw [e, p_cl m (by omega)]; exact ⟨rfl, hm⟩
theorem qoc_n (m : Nat) (h : m < 256) : qoc (Int32.ofNat m) = m := by
  unfold qoc
  rw [show Int32.ofNat m &&& 255 = Int32.ofNat m from p_ofN m h, p_cl m (by omega)]
theorem p_se_255 (b : Int32) : p_se (b &&& 255) = p_se b := by
  unfold p_se
  congr 1
  apply Int8.toBitVec_inj.1
  apply BitVec.eq_of_getLsbD_eq
  intro i hi
  simp
  have : ∀ i, i < 8 → (255#32).getLsbD i = true := by decide
  intro h; exact this i hi
theorem qoc_se (b : Int32) : p_se (Int32.ofNat (qoc b)) = p_se b := by rw [(qoc_e b).1, p_se_255]
theorem qoc_pse (m : Nat) (h : m < 256) : qoc (p_se (Int32.ofNat m)) = m := by
  have : ∀ m, m < 256 → qoc (p_se (Int32.ofNat m)) = m := by decide +kernel
  exact this m h
abbrev qMem : Type := (Nat → Nat) × Nat × Nat
/-- memory, how many octets were laid, where the first one is -/
def qlm : List Nat → qMem → Nat → qMem
  | [], M, _ => M
  | b :: bs, M, h => qlm bs (fun a => if a = h then b else M.1 a, M.2.1 + 1, if M.2.1 = 0 then h else M.2.2) (h + 1)
theorem qlm_app : ∀ (bs cs : List Nat) (M : qMem) (h : Nat), qlm (bs ++ cs) M h = qlm cs (qlm bs M h) (h + bs.length) := by
  intro bs
  induction bs with
  | nil => intro cs M h; rfl
  | cons b bs ih =>
    intro cs M h
    show qlm (bs ++ cs) _ (h + 1) = _
    rw [ih]
    show qlm cs (qlm bs _ (h + 1)) (h + 1 + bs.length) = qlm cs (qlm bs _ (h + 1)) (h + (bs.length + 1))
    rw [show h + 1 + bs.length = h + (bs.length + 1) by omega]
def xMe (M : qMem) (σ : fv_S) : Prop := (∀ a, a < 65536 → fv_gw σ 20 a = p_se (Int32.ofNat (M.1 a))) ∧ fv_gi σ 1545 = Int32.ofNat M.2.1 ∧ fv_gi σ 1547 = q01 (decide (0 < M.2.1)) ∧ fv_gi σ 1546 = Int32.ofNat M.2.2
theorem xMe_s {M : qMem} {σ σ' : fv_S} (h : xMe M σ) (s : xMs σ σ') : xMe M σ' := ⟨by rw [s.1]; exact h.1, s.2.1.trans h.2.1, s.2.2.2.trans h.2.2.1, s.2.2.1.trans h.2.2.2⟩
/-- what laying leaves alone -/
def xFy (σ σ' : fv_S) : Prop := (∀ k, k ≠ 1543 → k ≠ 1545 → k ≠ 1546 → k ≠ 1547 → fv_gi σ' k = fv_gi σ k) ∧ σ'.2.1 = σ.2.1 ∧ (∀ a, a ≠ 20 → fv_gw σ' a = fv_gw σ a) ∧ fv_n σ' = fv_n σ
theorem xFy_r (σ : fv_S) : xFy σ σ := ⟨fun _ _ _ _ _ => rfl, rfl, fun _ _ => rfl, rfl⟩
theorem xFy_t {a b c : fv_S} (h : xFy a b) (g : xFy b c) : xFy a c := ⟨fun k h1 h2 h3 h4 => (g.1 k h1 h2 h3 h4).trans (h.1 k h1 h2 h3 h4), g.2.1.trans h.2.1, fun k hk => (g.2.2.1 k hk).trans (h.2.2.1 k hk), g.2.2.2.trans h.2.2.2⟩
theorem xFo_y {a b : fv_S} (h : xFy a b) : xFo a b := ⟨fun k h1 h2 h3 => h.1 k (by omega) (by omega) (by omega) (by omega), ⟨h.2.1, xB17_e (h.2.2.1 17 (by omega))⟩, fun x hx => h.2.2.1 x (by omega)⟩
theorem xAt_y {B : Nat → Nat} {n p : Nat} {σ σ' : fv_S} (h : xAt B n p σ) (f : xFy σ σ') : xAt B n p σ' := xAt_c h (fun k _ _ => f.1 k (by omega) (by omega) (by omega) (by omega))
theorem xR_y {r : Option (Nat × Nat)} {σ σ' : fv_S} (h : xR r σ) (f : xFy σ σ') : xR r σ' := xR_c h (f.1 _ (by omega) (by omega) (by omega) (by omega)) (f.1 _ (by omega) (by omega) (by omega) (by omega))
theorem xZ_y {B : Nat → Nat} {n : Nat} {sec : Bool} {L : List (List Nat × Int32)} {h h' : Nat} {I : List (Bool × Bool)} {org : Nat} {σ σ' : fv_S} (z : xZ B n sec L h I org σ) (f : xFy σ σ') (hh : fv_gi σ' 1543 = Int32.ofNat h') (h0 : sec = false → fv_gi σ' 1546 = fv_gi σ 1546 ∧ fv_gi σ' 1547 = fv_gi σ 1547) : xZ B n sec L h' I org σ' := by
  obtain ⟨z1, z2, z3, z4, z5, z6, z7, z8, z9⟩ := z
  have g : ∀ k, k ≠ 1543 → k ≠ 1545 → k ≠ 1546 → k ≠ 1547 → fv_gi σ' k = fv_gi σ k := f.1
  have gw := f.2.2.1
  exact ⟨⟨(g 1665 (by omega) (by omega) (by omega) (by omega)).trans z1.1, by rw [gw 14 (by omega), gw 15 (by omega)]; exact z1.2⟩, ⟨(g 2051 (by omega) (by omega) (by omega) (by omega)).trans z2.1, z2.2.1, by rw [gw 17 (by omega), gw 18 (by omega), gw 19 (by omega)]; exact z2.2.2⟩, (g _ (by omega) (by omega) (by omega) (by omega)).trans z3, xQ4_c z4 (g _ (by omega) (by omega) (by omega) (by omega)) h0, hh, (g _ (by omega) (by omega) (by omega) (by omega)).trans z6, (g _ (by omega) (by omega) (by omega) (by omega)).trans z7, (g _ (by omega) (by omega) (by omega) (by omega)).trans z8, xIf_c I σ σ' (fun i _ => by rw [gw 27 (by omega), gw 28 (by omega), gw 29 (by omega)]; exact ⟨rfl, rfl, rfl⟩) z9⟩
theorem xR_0 {G : Option (Nat × Nat)} {σ : fv_S} (h : xR G σ) : fv_gi σ 1563 = 0 ↔ G = none := by
  cases G with
  | none => exact ⟨fun _ => rfl, fun _ => h⟩
  | some f => exact ⟨fun e => by rw [h.1] at e; have := (p_eqN f.1 0 (by have := h.2.2.2.1; omega) (by omega)).1 e; have := h.2.2.1; omega, fun e => absurd e (by simp)⟩
theorem x_lay {B : Nat → Nat} {n : Nat} {sec : Bool} {L : List (List Nat × Int32)} {h : Nat} {I : List (Bool × Bool)} {org : Nat} {σ : fv_S} {G : Option (Nat × Nat)} {M : qMem} (z : xZ B n sec L h I org σ) (hR : xR G σ) (hM : sec = true → G = none → xMe M σ) (hh : sec = true → h < 65536) (b : Int32) :
    ∃ σ', zX3_lay b σ = fv_rv σ' ∧ xZ B n sec L (h + 1) I org σ' ∧ xFy σ σ' ∧ (sec = true → G = none → xMe (qlm [qoc b] M h) σ') := by
  have z5 := z.2.2.2.2.1
  have plain : ∃ σ', zX3_lay_45 σ = fv_rv σ' ∧ xZ B n sec L (h + 1) I org σ' ∧ xFy σ σ' := by
    unfold zX3_lay_45
    have f : xFy σ (fv_si (fv_si σ 1543 (fv_gi σ 1543 + 1)) 1545 (fv_gi σ 1545 + 1)) := ⟨fun k h1 h2 _ _ => (if_neg h2).trans (if_neg h1), rfl, fun _ _ => rfl, rfl⟩
    refine ⟨_, rfl, xZ_y z f ?_ (fun _ => ⟨rfl, rfl⟩), f⟩
    show fv_gi σ 1543 + 1 = _
    rw [z5, p_sucN]
  unfold zX3_lay
  rw [z.2.2.1]
  by_cases hs : sec = true
  · rw [if_neg (show ¬ q01 sec = 0 by rw [hs]; decide)]
    by_cases c : G = none
    · rw [if_neg (not_not_intro ((xR_0 hR).2 c))]
      have hM := hM hs c
      have hh := hh hs
      obtain ⟨i1, i2⟩ := p_inN h 65536 hh (by omega)
      have e29 : ∀ s : fv_S, fv_gi s 1543 = Int32.ofNat h → zX3_lay_29 b s = fv_rv (fv_si (fv_si (fv_sa (fv_si s 1547 1) 20 (Int32.ofNat h) (p_se b)) 1543 (Int32.ofNat (h + 1))) 1545 (fv_gi s 1545 + 1)) := by
        intro s e
        unfold zX3_lay_29 zX3_lay_45
        rw [e, if_pos i1, show ((Int32.toInt8 ((Int32.toInt8 b).toInt32)).toInt32) = p_se b from p_se_se b, show fv_gi (fv_sa (fv_si s 1547 1) 20 (Int32.ofNat h) (p_se b)) 1543 = Int32.ofNat h from e, p_sucN]; rfl
      have fin : ∀ s : fv_S, (∀ k, k ≠ 1546 → fv_gi s k = fv_gi σ k) → s.2 = σ.2 → fv_gi s 1546 = Int32.ofNat (if M.2.1 = 0 then h else M.2.2) → ∃ σ', zX3_lay_29 b s = fv_rv σ' ∧ xZ B n sec L (h + 1) I org σ' ∧ xFy σ σ' ∧ (sec = true → G = none → xMe (qlm [qoc b] M h) σ') := by
        intro s g1 g2 g3
        rw [e29 s ((g1 1543 (by omega)).trans z5)]
        have gw : ∀ a, fv_gw s a = fv_gw σ a := fun a => by show s.2.2.1 a = _; rw [g2]
        have f : xFy σ (fv_si (fv_si (fv_sa (fv_si s 1547 1) 20 (Int32.ofNat h) (p_se b)) 1543 (Int32.ofNat (h + 1))) 1545 (fv_gi s 1545 + 1)) := by
          refine ⟨fun k h1 h2 h3 h4 => (if_neg h2).trans ((if_neg h1).trans ((if_neg h4).trans (g1 k h3))), by show s.2.1 = _; rw [g2], fun a ha => ?_, by show s.2.2.2 = _; rw [g2]⟩
          show fv_gw (fv_sa (fv_si s 1547 1) 20 (Int32.ofNat h) (p_se b)) a = _
          rw [s_an _ _ _ _ _ ha]; exact gw a
        refine ⟨_, rfl, xZ_y z f rfl (fun e => by rw [hs] at e; exact absurd e (by decide)), f, fun _ _ => ⟨fun a ha => ?_, ?_, ?_, ?_⟩⟩
        · show fv_gw (fv_sa (fv_si s 1547 1) 20 (Int32.ofNat h) (p_se b)) 20 a = p_se (Int32.ofNat (if a = h then qoc b else M.1 a))
          by_cases c : a = h
          · rw [if_pos c, c, qoc_se]
            have := s_ak (fv_si s 1547 1) 20 (Int32.ofNat h) (p_se b)
            rw [i2] at this; exact this
          · rw [if_neg c, s_ai _ _ _ _ _ (by rw [i2]; exact c)]
            show fv_gw s 20 a = _
            rw [gw 20]; exact hM.1 a ha
        · show fv_gi s 1545 + 1 = Int32.ofNat (M.2.1 + 1)
          rw [g1 1545 (by omega), hM.2.1, p_sucN]
        · show (1 : Int32) = q01 (decide (0 < M.2.1 + 1))
          rw [decide_eq_true (by omega)]; rfl
        · exact g3
      rw [hM.2.2.1]
      by_cases cc : 0 < M.2.1
      · rw [decide_eq_true cc, if_pos (show ¬ q01 true = 0 by decide)]
        exact fin σ (fun _ _ => rfl) rfl (by rw [if_neg (by omega)]; exact hM.2.2.2)
      · rw [decide_eq_false cc, if_neg (show ¬ ¬ q01 false = 0 by decide)]
        exact fin _ (fun k hk => if_neg hk) rfl (by rw [if_pos (by omega)]; exact z5)
    · rw [if_pos (fun e => c ((xR_0 hR).1 e))]
      obtain ⟨σ', x, y, w⟩ := plain
      exact ⟨σ', x, y, w, fun _ h => absurd h c⟩
  · rw [if_pos (show q01 sec = 0 by cases hx : sec; rfl; exact absurd hx hs)]
    obtain ⟨σ', x, y, w⟩ := plain
    exact ⟨σ', x, y, w, fun h => absurd h hs⟩
/-- a number that must lie between two, in the second pass -/
theorem x_inr {sec : Bool} {σ : fv_S} {G : Option (Nat × Nat)} (h41 : fv_gi σ 1541 = q01 sec) (hR : xR G σ) (v a b : Int32) (q : Nat) (hq : q ≤ 6000) : ∃ σ', zX3_inRange v a b (Int32.ofNat q) σ = fv_rv σ' ∧ xR (if sec = true ∧ qin v a b = false then qtm G (5, q) else G) σ' ∧ (∀ k, k ≠ 1563 → k ≠ 1564 → fv_gi σ' k = fv_gi σ k) ∧ σ'.2 = σ.2 := by
  unfold zX3_inRange
  rw [h41]
  by_cases hs : sec = true
  · rw [if_neg (show ¬ q01 sec = 0 by rw [hs]; decide), x_isin, fv_bi_ri]
    cases hi : qin v a b with
    | true =>
      rw [if_pos (show ¬ q01 true = 0 by decide), if_neg (fun e => absurd e.2 (by decide))]
      exact ⟨σ, rfl, hR, fun _ _ _ => rfl, rfl⟩
    | false =>
      rw [if_neg (show ¬ ¬ q01 false = 0 by decide), if_pos ⟨hs, rfl⟩]
      obtain ⟨σ', x, r, f, f'⟩ := x_tell hR (5, q) (by show 1 ≤ 5; omega) (by show 5 ≤ 9; omega) hq
      rw [show zX3_tellFault 5 (Int32.ofNat q) σ = _ from x, fv_bv_rv]
      exact ⟨σ', rfl, r, f, f'⟩
  · rw [if_pos (show q01 sec = 0 by cases hx : sec; rfl; exact absurd hx hs), if_neg (fun e => hs e.1)]
    exact ⟨σ, rfl, hR, fun _ _ _ => rfl, rfl⟩
