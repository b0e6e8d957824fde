set_option maxRecDepth 100000
set_option maxHeartbeats 4000000
/-! The plain law: DS in the model. -/
theorem m_lays {B : Nat → Nat} {n N : Nat} {sec : Bool} {L : List (List Nat × Int32)} {h : Nat} {I : List (Bool × Bool)} {org : Nat} {M : qMem} {τ : fv_S} (z : mZ B n sec L h I org τ) (hM : mMe M τ) (c : Nat) (hh : h + c ≤ 65536) (hB : M.2.1 ≤ 2000000000 + h) (w : Int32) (hN : 70000 ≤ N) : ∃ τ', zX8_space_160 N N (Int32.ofNat c) w 0 τ = fv_ri 1 τ' ∧ mFy τ τ' ∧ mZ B n sec L (h + c) I org τ' ∧ mMe (qlm (List.replicate c (qoc w)) M h) τ' := by
  have lp : ∀ (d i m : Nat) (s : fv_S), c - i = d → i ≤ c → d + 1 ≤ m → mFy τ s → mZ B n sec L (h + i) I org s → mMe (qlm (List.replicate i (qoc w)) M h) s → ∃ τ', zX8_space_160 N m (Int32.ofNat c) w (Int32.ofNat i) s = fv_ri 1 τ' ∧ mFy τ τ' ∧ mZ B n sec L (h + c) I org τ' ∧ mMe (qlm (List.replicate c (qoc w)) M h) τ' := by
    intro d
    induction d with
    | zero =>
      intro i m s e hi hm f z hMe
      obtain ⟨m, rfl⟩ : ∃ j, m = j + 1 := ⟨m - 1, by omega⟩
      have ei : i = c := by omega
      subst ei
      refine ⟨s, ?_, f, z, hMe⟩
      show zX8_space_160_b _ _ _ _ _ _ = _
      unfold zX8_space_160_b
      rw [if_pos ((p_leN i i (by omega) (by omega)).2 (Nat.le_refl _))]
    | succ d ih =>
      intro i m s e hi hm f z hMe
      obtain ⟨m, rfl⟩ : ∃ j, m = j + 1 := ⟨m - 1, by omega⟩
      obtain ⟨τ2, x2, z2, f2, m2⟩ := m_lay z hMe (by omega) (by rw [qlm_c, List.length_replicate]; omega) w
      have st : zX8_space_160 N (m + 1) (Int32.ofNat c) w (Int32.ofNat i) s = zX8_space_160 N m (Int32.ofNat c) w (Int32.ofNat (i + 1)) τ2 := by
        show zX8_space_160_b _ _ _ _ _ _ = _
        unfold zX8_space_160_b
        rw [if_neg (fun e => by have := (p_leN c i (by omega) (by omega)).1 e; omega), x2, fv_bv_rv, p_sucN]
      rw [st]
      refine ih (i + 1) m τ2 (by omega) (by omega) (by omega) (mFy_t f f2) z2 ?_
      rw [List.replicate_succ', qlm_app, List.length_replicate]
      exact m2
  exact lp c 0 N τ (by omega) (by omega) (by omega) (mFy_r τ) z hM
theorem m_106 {B : Nat → Nat} {n N p' q : Nat} {sec : Bool} {L : List (List Nat × Int32)} {h : Nat} {I : List (Bool × Bool)} {org : Nat} {M : qMem} {τ τ1 : fv_S} (f : mFo τ τ1) (ms : sec = false → mMs τ τ1) (hp : p' ≤ n) (k : qMt B (qT B n p') τ1) (z : mZ B n sec L h I org τ1) (hM : sec = true → mMe M τ1) (c : Nat) (hc : c ≤ 65535) (hh0 : h ≤ 65536) (hh : sec = true → h + c ≤ 65536) (hB : sec = true → M.2.1 ≤ 2000000000 + h) (w : Int32) (b : Nat) (hb : sec = true → b = qoc w) (hN : 70000 ≤ N) :
    mSo B n (qLF B n none (.inr p') (h + c) q) (.inr p') (fun τ' => mZ B n sec L (h + c) I org τ' ∧ (sec = true → mMe (qlm (List.replicate c b) M h) τ') ∧ (sec = false → mMs τ τ')) τ (zX8_space_106 N (Int32.ofNat q) (Int32.ofNat c) w τ1) := by
  have e1 := (m_k k.1 1 (by omega)).trans (qmk_e (qT B n p').1).2.1
  unfold zX8_space_106
  by_cases c0 : (qT B n p').1 = 0
  · rw [if_pos (show fv_gi τ1 3 = 1 from e1.2 c0), z.2.2.2.1, ← Int32.ofNat_add]
    show mSo B n (if (qT B n p').1 = 0 then (if 65536 < h + c then some (8, q) else none) else _) _ _ _ _
    rw [if_pos c0]
    by_cases cl : h + c ≤ 65536
    · rw [if_pos (show Int32.ofNat (h + c) ≤ 65536 from (p_leN _ 65536 (by omega) (by omega)).2 cl), if_neg (by omega), z.2.2.1]
      by_cases hs : sec = true
      · rw [if_pos (show ¬ q01 sec = 0 by rw [hs]; decide)]
        obtain ⟨τ2, x2, f2, z2, m2⟩ := m_lays (N := N) z (hM hs) c (hh hs) (hB hs) w hN
        refine ⟨p', τ2, rfl, c0, hp, x2, mFo_t f (mFo_y f2), (f2.1 2 (by omega) (by omega) (by omega)).trans k.1.1, z2, fun _ => ?_, fun h => by rw [hs] at h; exact absurd h (by decide)⟩
        rw [hb hs]; exact m2
      · rw [if_neg (show ¬ ¬ q01 sec = 0 by cases hx : sec; decide; exact absurd hx hs)]
        refine ⟨p', _, rfl, c0, hp, rfl, mFo_si f 20 _ (by omega), k.1.1, ?_, fun h => absurd h hs, fun h => mMs_t (ms h) ⟨rfl, rfl, rfl⟩⟩
        obtain ⟨a1, a2, a3, a4, a5, a6, a7, a8⟩ := z
        exact ⟨⟨a1.1, a1.2⟩, ⟨a2.1, a2.2⟩, a3, rfl, a5, a6, a7, mIf_c I τ1 _ (fun _ _ => ⟨rfl, rfl⟩) a8⟩
    · rw [if_neg (show ¬ Int32.ofNat (h + c) ≤ 65536 from fun e => cl ((p_leN _ 65536 (by omega) (by omega)).1 e)), if_pos (by omega)]
      exact mFx_t f (mFx_w z.2.2.2.2.2.1 (8, q) ⟨by show 1 ≤ 8; omega, by show 8 ≤ 9; omega⟩)
  · rw [if_neg (show ¬ fv_gi τ1 3 = 1 from fun e => c0 (e1.1 e))]
    show mSo B n (if (qT B n p').1 = 0 then _ else some (qwr (qT B n p'), (qT B n p').2.1)) _ _ _ _
    rw [if_neg c0]
    exact mFx_t f (mFx_b (mFx_f (mFt_rf z.2.2.2.2.2.1 k.1)))
theorem m_space {B : Nat → Nat} {n N p q : Nat} (hS : qS B n) (hN : 70000 ≤ N) {sec : Bool} {L : List (List Nat × Int32)} {h : Nat} (hh0 : h ≤ 65536) {I : List (Bool × Bool)} {org : Nat} {M : qMem} {τ : fv_S} (z : mZ B n sec L h I org τ) (k : qMt B (qT B n p) τ) (hp : p ≤ n) (hM : sec = true → mMe M τ) (hh : sec = true → h + (qSp B n sec L org p).2.1.length ≤ 65536) (hB : sec = true → M.2.1 ≤ 2000000000 + h) :
    mSo B n (qLF B n (qSp B n sec L org p).1 (qSp B n sec L org p).2.2 (h + (qSp B n sec L org p).2.1.length) q) (qSp B n sec L org p).2.2 (fun τ' => mZ B n sec L (h + (qSp B n sec L org p).2.1.length) I org τ' ∧ (sec = true → mMe (qlm (qSp B n sec L org p).2.1 M h) τ') ∧ (sec = false → mMs τ τ')) τ (fv_bi (zX8_space N (Int32.ofNat q) τ) (fun r21 σ20 => if r21 = 0 ∨ r21 = 1 then fv_ri r21 σ20 else none) fv_no) := by
  have hn := hS.1
  refine mSo_b ?_
  obtain ⟨A, C, D⟩ := m_kx (N := N) hS (by omega) z hp k
  have f4 : fv_gi τ 4 = Int32.ofNat (qT B n p).2.1 := k.1.2.2.1
  unfold zX8_space
  cases hg : ((qEX B n p).1 (qen L org)).1 with
  | some g =>
    have e1 : qS1 B n L org p = some g := by unfold qS1; rw [hg]; cases (qEX B n p).2 <;> rfl
    have e2 : (qSp B n sec L org p).1 = some g := by
      cases ho : (qEX B n p).2 with
      | inl f => rw [qSp_i ho]; exact e1
      | inr p1 => rw [qSp_g ho e1]
    rw [e2]
    exact mFx_n (A g hg) _
  | none =>
    cases ho : (qEX B n p).2 with
    | inl f =>
      have e1 : qS1 B n L org p = none := by unfold qS1; rw [hg, ho]; rfl
      rw [qSp_i ho, e1]
      exact mFx_n (C hg f ho) _
    | inr p1 =>
      obtain ⟨τ1, x1, f1, k1, z1, hp1, e22⟩ := D hg p1 ho
      have e1 : qS1 B n L org p = if qin ((qEX B n p).1 (qen L org)).2 0 65535 = true then none else some (5, (qT B n p).2.1) := by unfold qS1; rw [hg, ho]; rfl
      rw [x1, fv_bi_ri, if_pos (show ¬ (1 : Int32) = 0 by decide), e22]
      have far : mFx (5, (qT B n p).2.1) τ (zX8_space_30 N (fv_gi τ 4) τ1) := by
        unfold zX8_space_30; rw [f4]
        exact mFx_t (mFo_e f1) (mFx_w z1.2.2.2.2.2.1 (5, (qT B n p).2.1) ⟨by show 1 ≤ 5; omega, by show 5 ≤ 9; omega⟩)
      cases hi : qin ((qEX B n p).1 (qen L org)).2 0 65535 with
      | false =>
        rw [hi, if_neg (by decide)] at e1
        rw [qSp_g ho e1]
        have hi := of_decide_eq_false hi
        by_cases c1 : ((qEX B n p).1 (qen L org)).2 < 0
        · rw [if_pos c1]; exact far
        · rw [if_neg c1, if_neg (fun c2 => hi ⟨by rw [p_le]; rw [p_lt] at c1; omega, c2⟩)]; exact far
      | true =>
        rw [hi, if_pos rfl] at e1
        obtain ⟨cnt, m1, m2, m3, m4⟩ := qin_16 hi
        have hi := of_decide_eq_true hi
        rw [if_neg (fun c1 => by rw [p_lt] at c1; have := (p_le _ _).1 hi.1; omega), if_pos hi.2, show zX8_isSign 44 τ1 = _ from m_sgn (qT_b hS p1 hp1) k1.1 44 rfl, fv_bi_ri]
        have hb1 := qT_b hS p1 hp1
        have M1 : sec = true → mMe M τ1 := fun hs => mMe_s (hM hs) (mMs_e f1)
        by_cases c44 : (qT B n p1).1 = 44
        · rw [qSp_c ho e1 c44] at hh ⊢
          rw [m4] at hh ⊢
          rw [show ((qT B n p1).1 == 44) = true by simp [c44], if_neg (show ¬ q01 true = 0 by decide)]
          obtain ⟨τ2, x2, f2, k2⟩ := m_go (N := N) hS (by omega) hp1 z1.1 k1
          have hp2 := hb1.2.2.1
          have z2 := mZ_q z1 f2
          have fo2 := mFo_t (mFo_e f1) (mFo_q f2)
          have ms2 := mMs_t (mMs_e f1) (mMs_e (mFe_q f2))
          have M2 : sec = true → mMe M τ2 := fun hs => mMe_s (M1 hs) (mMs_e (mFe_q f2))
          have f42 : fv_gi τ2 4 = Int32.ofNat (qT B n (qT B n p1).2.2.1).2.1 := k2.1.2.2.1
          rw [x2, fv_bv_rv, z2.2.2.1, f42]
          obtain ⟨A2, C2, D2⟩ := m_ek (N := N) hS (by omega) z2 hp2 k2 sec
          simp only [List.length_replicate] at hh ⊢
          generalize hp2e : (qT B n p1).2.2.1 = p2 at A2 C2 D2 hp2 k2 f42 hh ⊢
          generalize ((qEX B n p2).1 (qen L org)).1 = g2 at A2 C2 D2 hh ⊢
          generalize ((qEX B n p2).1 (qen L org)).2 = v2 at D2 hh ⊢
          cases hgk : (if sec = true then g2 else none) with
          | some g =>
            have hs : sec = true := by
              cases hx : sec with
              | true => rfl
              | false => rw [hx, if_neg (by decide)] at hgk; exact absurd hgk (by simp)
            rw [if_pos hs] at hgk
            rw [if_pos hs, hgk, show ∀ o : qOu, qkg (some g) v2 o (-128) 255 (qT B n p2).2.1 = some g from fun o => by cases o <;> rfl]
            exact mFx_t fo2 (mFx_n (A2 g (by rw [if_pos hs]; exact hgk)) _)
          | none =>
            cases ho2 : (qEX B n p2).2 with
            | inl f =>
              have : (if sec = true then qkg g2 v2 (.inl f) (-128) 255 (qT B n p2).2.1 else none) = none := hgk
              rw [this]
              exact mFx_t fo2 (mFx_n (C2 hgk f ho2) _)
            | inr p3 =>
              obtain ⟨τ3, x3, f3, k3, z3, hp3, e23⟩ := D2 hgk p3 ho2
              rw [x3, fv_bi_ri, if_pos (show ¬ (1 : Int32) = 0 by decide), z3.2.2.1]
              have fo3 := mFo_t fo2 (mFo_e f3)
              have ms3 := mMs_t ms2 (mMs_e f3)
              have M3 : sec = true → mMe M τ3 := fun hs => mMe_s (M2 hs) (mMs_e f3)
              by_cases hs : sec = true
              · rw [if_pos hs] at hgk
                subst hgk
                have e23 := e23 hs
                rw [if_neg (show ¬ q01 sec = 0 by rw [hs]; decide), if_pos hs, e23]
                have far2 : mFx (5, (qT B n p2).2.1) τ (zX8_space_99 N (Int32.ofNat (qT B n p2).2.1) τ3) := by
                  unfold zX8_space_99
                  exact mFx_t fo3 (mFx_w z3.2.2.2.2.2.1 (5, (qT B n p2).2.1) ⟨by show 1 ≤ 5; omega, by show 5 ≤ 9; omega⟩)
                show mSo B n (qLF B n (if qin v2 (-128) 255 = true then none else some (5, (qT B n p2).2.1)) _ _ q) _ _ _ _
                cases hq : qin v2 (-128) 255 with
                | false =>
                  rw [if_neg (by decide)]
                  have hq := of_decide_eq_false hq
                  by_cases c1 : v2 < -128
                  · rw [if_pos c1]; exact far2
                  · rw [if_neg c1, if_neg (fun c2 => hq ⟨by rw [p_le]; rw [p_lt] at c1; omega, c2⟩)]; exact far2
                | true =>
                  rw [if_pos rfl]
                  have hq := of_decide_eq_true hq
                  rw [if_neg (fun c1 => by rw [p_lt] at c1; have := (p_le _ _).1 hq.1; omega), if_pos hq.2, m2]
                  exact m_106 fo3 (fun h => by rw [hs] at h; exact absurd h (by decide)) hp3 k3 z3 M3 cnt m1 hh0 hh hB v2 (qoc v2) (fun _ => rfl) hN
              · rw [if_pos (show q01 sec = 0 by cases hx : sec; rfl; exact absurd hx hs), if_neg hs, m2]
                exact m_106 fo3 (fun _ => ms3) hp3 k3 z3 M3 cnt m1 hh0 hh hB _ (qoc v2) (fun h => absurd h hs) hN
        · rw [qSp_e ho e1 c44] at hh ⊢
          rw [m4] at hh ⊢
          rw [show ((qT B n p1).1 == 44) = false by simp [c44], if_pos (show q01 false = 0 by decide), m2]
          simp only [List.length_replicate] at hh ⊢
          exact m_106 (mFo_e f1) (fun _ => mMs_e f1) hp1 k1 z1 M1 cnt m1 hh0 hh hB 0 0 (fun _ => by decide +kernel) hN
