set_option maxRecDepth 100000
set_option maxHeartbeats 4000000
/-! The plain law: DB and DW in the model. -/
theorem m_ek {B : Nat → Nat} {n N p : Nat} (hS : qS B n) (hN : 7000 ≤ N) {sec : Bool} {L : List (List Nat × Int32)} {h : Nat} {I : List (Bool × Bool)} {org : Nat} {τ : fv_S} (z : mZ B n sec L h I org τ) (hp : p ≤ n) (k : qMt B (qT B n p) τ) (K : Bool) :
    (∀ f, (if K = true then ((qEX B n p).1 (qen L org)).1 else none) = some f → mFx f τ (zX8_expression N (q01 K) τ)) ∧ ((if K = true then ((qEX B n p).1 (qen L org)).1 else none) = none → ∀ f, (qEX B n p).2 = .inl f → mFx f τ (zX8_expression N (q01 K) τ)) ∧
    ((if K = true then ((qEX B n p).1 (qen L org)).1 else none) = none → ∀ p', (qEX B n p).2 = .inr p' → ∃ τ', zX8_expression N (q01 K) τ = fv_ri 1 τ' ∧ mFe τ τ' ∧ qMt B (qT B n p') τ' ∧ mZ B n sec L h I org τ' ∧ p' ≤ n ∧ (K = true → fv_gi τ' 22 = ((qEX B n p).1 (qen L org)).2)) := by
  cases K with
  | true =>
    obtain ⟨A, C, D⟩ := m_kx (N := N) hS hN z hp k
    refine ⟨fun f hf => A f hf, fun hg f hf => C hg f hf, fun hg p' hp' => ?_⟩
    obtain ⟨τ', h1, h2, h3, h4, h5, h6⟩ := D hg p' hp'
    exact ⟨τ', h1, h2, h3, h4, h5, fun _ => h6⟩
  | false =>
    have R := m_exp (N := N) hS hN false (L := L) (e := qen L org) (p := p) (τ := τ) ⟨z.1, z.2.1, rfl, z.2.2.2.2.1, k, z.2.2.2.2.2.1, hp⟩
    generalize (qEX B n p).1 = s at R ⊢
    generalize (qEX B n p).2 = o at R ⊢
    refine ⟨fun f hf => absurd hf (by simp), fun _ f ho => ?_, fun _ p' ho => ?_⟩
    · subst ho
      have R : mFt (mFl1 false (qen L org) s f) τ _ := R
      unfold mFl1 at R
      rw [if_neg (by decide)] at R
      exact mFx_f R
    · subst ho
      rcases R with ⟨h, _⟩ | ⟨τ', h1, h2, h3, h4, h5, h6⟩
      · exact absurd h (by decide)
      · exact ⟨τ', h1, h2, h3, mZ_e z h2 h4, h5, fun h => absurd h (by decide)⟩
def mMe (M : qMem) (τ : fv_S) : Prop := (∀ a, a < 65536 → fv_gw τ 14 a = Int32.ofNat (M.1 a)) ∧ fv_gi τ 39 = Int32.ofNat M.2.1 ∧ fv_gi τ 40 = Int32.ofNat M.2.2
theorem mMe_s {M : qMem} {τ τ' : fv_S} (h : mMe M τ) (s : mMs τ τ') : mMe M τ' := ⟨by rw [s.1]; exact h.1, s.2.1.trans h.2.1, s.2.2.trans h.2.2⟩
def mFy (τ τ' : fv_S) : Prop := (∀ k, k ≠ 20 → k ≠ 39 → k ≠ 40 → fv_gi τ' k = fv_gi τ k) ∧ τ'.2.1 = τ.2.1 ∧ (∀ a, a ≠ 14 → fv_gw τ' a = fv_gw τ a) ∧ fv_n τ' = fv_n τ
theorem mFy_r (τ : fv_S) : mFy τ τ := ⟨fun _ _ _ _ => rfl, rfl, fun _ _ => rfl, rfl⟩
theorem mFy_t {a b c : fv_S} (h : mFy a b) (g : mFy b c) : mFy a c := ⟨fun k h1 h2 h3 => (g.1 k h1 h2 h3).trans (h.1 k h1 h2 h3), g.2.1.trans h.2.1, fun k hk => (g.2.2.1 k hk).trans (h.2.2.1 k hk), g.2.2.2.trans h.2.2.2⟩
theorem mFo_y {a b : fv_S} (h : mFy a b) : mFo a b := ⟨fun k hk => h.1 k (by omega) (by omega) (by omega), fun k _ => by show b.2.1 k = _; rw [h.2.1], fun x hx => h.2.2.1 x (by omega), h.2.2.2⟩
theorem qMt_y {B : Nat → Nat} {t : qTok} {τ τ' : fv_S} (h : qMt B t τ) (f : mFy τ τ') : qMt B t τ' := by
  have g : ∀ k, k ≤ 6 → fv_gi τ' k = fv_gi τ k := fun k hk => f.1 k (by omega) (by omega) (by omega)
  refine ⟨⟨(g 2 (by omega)).trans h.1.1, (g 3 (by omega)).trans h.1.2.1, (g 4 (by omega)).trans h.1.2.2.1, fun x => (g 6 (by omega)).trans (h.1.2.2.2.1 x), fun x => (g 6 (by omega)).trans (h.1.2.2.2.2.1 x), ?_⟩, (g 5 (by omega)).trans h.2⟩
  show τ'.2.1 7 = _
  rw [f.2.1]; exact h.1.2.2.2.2.2
theorem mZ_y {B : Nat → Nat} {n : Nat} {sec : Bool} {L : List (List Nat × Int32)} {h h' : Nat} {I : List (Bool × Bool)} {org : Nat} {τ τ' : fv_S} (z : mZ B n sec L h I org τ) (f : mFy τ τ') (hh : fv_gi τ' 20 = Int32.ofNat h') : mZ B n sec L h' I org τ' := by
  obtain ⟨z1, z2, z3, z4, z5, z6, z7, z8⟩ := z
  have g := f.1
  have gw := f.2.2.1
  exact ⟨⟨(g 1 (by omega) (by omega) (by omega)).trans z1.1, by rw [gw 1 (by omega)]; exact z1.2⟩, ⟨(g 13 (by omega) (by omega) (by omega)).trans z2.1, z2.2.1, by rw [gw 2 (by omega), gw 3 (by omega), gw 4 (by omega)]; exact z2.2.2⟩, (g _ (by omega) (by omega) (by omega)).trans z3, hh, (g _ (by omega) (by omega) (by omega)).trans z5, (g _ (by omega) (by omega) (by omega)).trans z6, (g _ (by omega) (by omega) (by omega)).trans z7, mIf_c I τ τ' (fun i _ => by rw [gw 15 (by omega), gw 16 (by omega)]; exact ⟨rfl, rfl⟩) z8⟩
theorem p_a16 (h : Nat) (hh : h < 65536) : Int32.ofNat h &&& 65535 = Int32.ofNat h := by
  apply Int32.toBitVec_inj.1
  apply BitVec.eq_of_toNat_eq
  simp [Int32.toBitVec_and]
  rw [show (65535 : Nat) = 2 ^ 16 - 1 from rfl, Nat.and_two_pow_sub_one_eq_mod]
  omega
theorem m_lay {B : Nat → Nat} {n : Nat} {sec : Bool} {L : List (List Nat × Int32)} {h : Nat} {I : List (Bool × Bool)} {org : Nat} {τ : fv_S} {M : qMem} (z : mZ B n sec L h I org τ) (hM : mMe M τ) (hh : h < 65536) (hc : M.2.1 < 2147483647) (b : Int32) :
    ∃ τ', zX8_lay b τ = fv_rv τ' ∧ mZ B n sec L (h + 1) I org τ' ∧ mFy τ τ' ∧ mMe (qlm [qoc b] M h) τ' := by
  have z4 := z.2.2.2.1
  obtain ⟨i1, i2⟩ := p_inN h 65536 hh (by omega)
  unfold zX8_lay zX8_lay_32
  rw [z4, p_a16 h hh, if_pos i1]
  have fin : ∀ s : fv_S, (∀ k, k ≠ 40 → fv_gi s k = fv_gi τ k) → s.2.1 = τ.2.1 → (∀ a, a ≠ 14 → fv_gw s a = fv_gw τ a) → fv_n s = fv_n τ → (∀ a, a < 65536 → fv_gw s 14 a = Int32.ofNat (if a = h then qoc b else M.1 a)) → fv_gi s 40 = Int32.ofNat (if M.2.1 = 0 then h else M.2.2) → ∃ τ', fv_rv (fv_si (fv_si s 39 (fv_gi s 39 + 1)) 20 (fv_gi s 20 + 1)) = fv_rv τ' ∧ mZ B n sec L (h + 1) I org τ' ∧ mFy τ τ' ∧ mMe (qlm [qoc b] M h) τ' := by
    intro s g1 g2 g3 g4 g5 g6
    have f : mFy τ (fv_si (fv_si s 39 (fv_gi s 39 + 1)) 20 (fv_gi s 20 + 1)) := ⟨fun k h1 h2 h3 => (if_neg h1).trans ((if_neg h2).trans (g1 k h3)), g2, g3, g4⟩
    refine ⟨_, rfl, mZ_y z f ?_, f, g5, ?_, g6⟩
    · show fv_gi s 20 + 1 = _
      rw [g1 20 (by omega), z4, p_sucN]
    · show fv_gi s 39 + 1 = Int32.ofNat (M.2.1 + 1)
      rw [g1 39 (by omega), hM.2.1, p_sucN]
  have w14 : ∀ a, a < 65536 → fv_gw (fv_sa τ 14 (Int32.ofNat h) (b &&& 255)) 14 a = Int32.ofNat (if a = h then qoc b else M.1 a) := by
    intro a ha
    by_cases c : a = h
    · rw [if_pos c, c, (qoc_e b).1]
      have := s_ak τ 14 (Int32.ofNat h) (b &&& 255)
      rw [i2] at this; exact this
    · rw [if_neg c, s_ai _ _ _ _ _ (by rw [i2]; exact c)]; exact hM.1 a ha
  rw [hM.2.1]
  by_cases c : M.2.1 = 0
  · rw [if_neg (show ¬ ¬ Int32.ofNat M.2.1 = 0 from not_not_intro (by rw [c]; rfl))]
    exact fin (fv_si (fv_sa τ 14 (Int32.ofNat h) (b &&& 255)) 40 (Int32.ofNat h)) (fun k hk => if_neg hk) rfl (fun a ha => s_an _ _ _ _ _ ha) rfl w14 (by rw [if_pos c]; rfl)
  · rw [if_pos (show ¬ Int32.ofNat M.2.1 = 0 from fun e => c ((p_eqN M.2.1 0 (by omega) (by omega)).1 e))]
    exact fin (fv_sa τ 14 (Int32.ofNat h) (b &&& 255)) (fun k _ => rfl) rfl (fun a ha => s_an _ _ _ _ _ ha) rfl w14 (by rw [if_neg c]; exact hM.2.2)
theorem qlm_c : ∀ (bs : List Nat) (M : qMem) (h : Nat), (qlm bs M h).2.1 = M.2.1 + bs.length := by
  intro bs
  induction bs with
  | nil => intro M h; rfl
  | cons b bs ih => intro M h; show (qlm bs _ (h + 1)).2.1 = _; rw [ih]; show M.2.1 + 1 + bs.length = M.2.1 + (bs.length + 1); omega
/-- where the model stands in DB: in the second pass octets are laid as they are read -/
def mD (B : Nat → Nat) (n : Nat) (sec : Bool) (L : List (List Nat × Int32)) (h0 c : Nat) (I : List (Bool × Bool)) (org : Nat) (M : qMem) (p : Nat) (τ : fv_S) : Prop := mZ B n sec L (if sec = true then h0 + c else h0) I org τ ∧ qMt B (qT B n p) τ ∧ p ≤ n ∧ (sec = true → mMe M τ)
theorem m_txs {B : Nat → Nat} {n N p q : Nat} (hS : qS B n) (hN : 7000 ≤ N) {sec : Bool} (wide : Int32) {L : List (List Nat × Int32)} {h0 c : Nat} {I : List (Bool × Bool)} {org : Nat} {M : qMem} {τ : fv_S} (D : mD B n sec L h0 c I org M p τ) (ht : (qT B n p).1 = 3) (hh : sec = true → h0 + c + ((qT B n p).2.2.1 - (qT B n p).2.1 - 2) ≤ 65536 ∧ M.2.1 + 70000 < 2147483647) (k8 : Int32 → Int32 → Int32 → Int32 → fv_S → Option fv_O) :
    ∃ τ', zX8_data_28 N k8 N (Int32.ofNat q) wide (Int32.ofNat c) (Int32.ofNat h0) (fv_gi τ 4 + 1) τ = zX8_data_189 N k8 (Int32.ofNat q) wide (Int32.ofNat (c + ((qT B n p).2.2.1 - (qT B n p).2.1 - 2))) (Int32.ofNat h0) τ' ∧ mFo τ τ' ∧ (sec = false → mMs τ τ') ∧ mD B n sec L h0 (c + ((qT B n p).2.2.1 - (qT B n p).2.1 - 2)) I org (qlm ((List.range ((qT B n p).2.2.1 - (qT B n p).2.1 - 2)).map (fun i => B ((qT B n p).2.1 + 1 + i))) M (h0 + c)) (qT B n p).2.2.1 τ' := by
  have hn := hS.1
  obtain ⟨z, k, hp, hM⟩ := D
  have hb := qT_b hS p hp
  have t3 := qT_3 ht
  have b3 := hb.2.2.1
  generalize hw : (qT B n p).2.2.1 - (qT B n p).2.1 - 2 = w at hh ⊢
  have lp : ∀ (d i m : Nat) (s : fv_S), w - i = d → i ≤ w → d + 1 ≤ m → mFy τ s → (sec = false → mMs τ s) → mZ B n sec L (if sec = true then h0 + (c + i) else h0) I org s → (sec = true → mMe (qlm ((List.range i).map (fun j => B ((qT B n p).2.1 + 1 + j))) M (h0 + c)) s) → ∃ τ', zX8_data_28 N k8 m (Int32.ofNat q) wide (Int32.ofNat (c + i)) (Int32.ofNat h0) (Int32.ofNat ((qT B n p).2.1 + 1 + i)) s = zX8_data_189 N k8 (Int32.ofNat q) wide (Int32.ofNat (c + w)) (Int32.ofNat h0) τ' ∧ mFo τ τ' ∧ (sec = false → mMs τ τ') ∧ mD B n sec L h0 (c + w) I org (qlm ((List.range w).map (fun j => B ((qT B n p).2.1 + 1 + j))) M (h0 + c)) (qT B n p).2.2.1 τ' := by
    intro d
    induction d with
    | zero =>
      intro i m s e hi hm f ms z hMe
      obtain ⟨m, rfl⟩ : ∃ j, m = j + 1 := ⟨m - 1, by omega⟩
      have ei : i = w := by omega
      subst ei
      have ks := qMt_y k f
      obtain ⟨τ2, x2, f2, k2⟩ := m_go hS hN hp z.1 ks
      refine ⟨τ2, ?_, mFo_t (mFo_y f) (mFo_q f2), fun hs => mMs_t (ms hs) (mMs_e (mFe_q f2)), mZ_q z f2, k2, b3, fun hs => mMe_s (hMe hs) (mMs_e (mFe_q f2))⟩
      show zX8_data_28_b _ _ _ _ _ _ _ _ _ = _
      unfold zX8_data_28_b
      rw [ks.2, p_prN _ (by omega), if_pos ((p_leN _ _ (by omega) (by omega)).2 (by omega)), x2, fv_bv_rv]
    | succ d ih =>
      intro i m s e hi hm f ms z hMe
      obtain ⟨m, rfl⟩ : ∃ j, m = j + 1 := ⟨m - 1, by omega⟩
      have ks := qMt_y k f
      have st : ∀ s' : fv_S, (if fv_gi s 42 = 0 then zX8_data_28 N k8 m (Int32.ofNat q) wide (Int32.ofNat (c + i) + 1) (Int32.ofNat h0) (Int32.ofNat ((qT B n p).2.1 + 1 + i) + 1) s else if fv_in (Int32.ofNat ((qT B n p).2.1 + 1 + i)) 6000 then fv_bv (zX8_lay (fv_ga s 1 (Int32.ofNat ((qT B n p).2.1 + 1 + i))) s) (fun σ12 => zX8_data_28 N k8 m (Int32.ofNat q) wide (Int32.ofNat (c + i) + 1) (Int32.ofNat h0) (Int32.ofNat ((qT B n p).2.1 + 1 + i) + 1) σ12) fv_no else none) = zX8_data_28 N k8 m (Int32.ofNat q) wide (Int32.ofNat (c + (i + 1))) (Int32.ofNat h0) (Int32.ofNat ((qT B n p).2.1 + 1 + (i + 1))) s' → zX8_data_28 N k8 (m + 1) (Int32.ofNat q) wide (Int32.ofNat (c + i)) (Int32.ofNat h0) (Int32.ofNat ((qT B n p).2.1 + 1 + i)) s = zX8_data_28 N k8 m (Int32.ofNat q) wide (Int32.ofNat (c + (i + 1))) (Int32.ofNat h0) (Int32.ofNat ((qT B n p).2.1 + 1 + (i + 1))) s' := by
        intro s' h
        rw [← h]
        show zX8_data_28_b _ _ _ _ _ _ _ _ _ = _
        unfold zX8_data_28_b
        rw [ks.2, p_prN _ (by omega), if_neg (fun e => by have := (p_leN _ _ (by omega) (by omega)).1 e; omega)]
      have e1 : Int32.ofNat (c + i) + 1 = Int32.ofNat (c + (i + 1)) := by rw [p_sucN, Nat.add_assoc]
      have e2 : Int32.ofNat ((qT B n p).2.1 + 1 + i) + 1 = Int32.ofNat ((qT B n p).2.1 + 1 + (i + 1)) := by rw [p_sucN, Nat.add_assoc]
      by_cases hs : sec = true
      · obtain ⟨i1, i2⟩ := p_inN ((qT B n p).2.1 + 1 + i) 6000 (by omega) (by omega)
        have hv : fv_ga s 1 (Int32.ofNat ((qT B n p).2.1 + 1 + i)) = Int32.ofNat (B ((qT B n p).2.1 + 1 + i)) := by
          show fv_gw s 1 (Int32.ofNat ((qT B n p).2.1 + 1 + i)).toNatClampNeg = _
          rw [i2, z.1.2 _ (by omega)]
        rw [if_pos hs] at z
        have hb2 := hh hs
        have hlen : (qlm ((List.range i).map (fun j => B ((qT B n p).2.1 + 1 + j))) M (h0 + c)).2.1 = M.2.1 + i := by rw [qlm_c, List.length_map, List.length_range]
        obtain ⟨τ2, x2, z2, f2, m2⟩ := m_lay z (hMe hs) (by omega) (by rw [hlen]; omega) (Int32.ofNat (B ((qT B n p).2.1 + 1 + i)))
        rw [st τ2 (by rw [z.2.2.1, hs, if_neg (show ¬ q01 true = 0 by decide), if_pos i1, hv, x2, fv_bv_rv, e1, e2])]
        refine ih (i + 1) m τ2 (by omega) (by omega) (by omega) (mFy_t f f2) (fun h => by rw [hs] at h; exact absurd h (by decide)) ?_ (fun _ => ?_)
        · rw [if_pos hs]; exact z2
        · rw [qoc_n _ (hS.2.1 _)] at m2
          rw [List.range_succ, List.map_append, qlm_app, List.length_map, List.length_range, Nat.add_assoc]
          exact m2
      · rw [if_neg hs] at z
        rw [st s (by rw [z.2.2.1, if_pos (show q01 sec = 0 by cases hx : sec; rfl; exact absurd hx hs), e1, e2])]
        exact ih (i + 1) m s (by omega) (by omega) (by omega) f ms (by rw [if_neg hs]; exact z) (fun h => absurd h hs)
  have := lp w 0 N τ (by omega) (by omega) (by omega) (mFy_r τ) (fun _ => ⟨rfl, rfl, rfl⟩) z hM
  rw [k.1.2.2.1, p_sucN]
  exact this
