set_option maxRecDepth 100000
set_option maxHeartbeats 4000000
/-! The plain law: DB, DW, DS in the class. -/
theorem qDa_i {B : Nat → Nat} {n : Nat} {sec wide : Bool} {L : List (List Nat × Int32)} {org f p : Nat} {x : Nat × Nat} (h : qDo B n wide p = .inl x) : qDa B n sec wide L org (f + 1) p = (qDg B n sec wide L org p, [], .inl x) := by
  show (match qDo B n wide p with
    | .inl x => (qDg B n sec wide L org p, [], .inl x)
    | .inr p' => _ : Option (Nat × Nat) × List Nat × qOu) = _
  rw [h]
theorem qDa_c {B : Nat → Nat} {n : Nat} {sec wide : Bool} {L : List (List Nat × Int32)} {org f p p' : Nat} (h : qDo B n wide p = .inr p') (c : (qT B n p').1 = 44) : qDa B n sec wide L org (f + 1) p = (qoe (qDg B n sec wide L org p) (qDa B n sec wide L org f (qT B n p').2.2.1).1, qDb B n wide L org p ++ (qDa B n sec wide L org f (qT B n p').2.2.1).2.1, (qDa B n sec wide L org f (qT B n p').2.2.1).2.2) := by
  show (match qDo B n wide p with
    | .inl x => (qDg B n sec wide L org p, [], .inl x)
    | .inr p' => if (qT B n p').1 = 44 then _ else _ : Option (Nat × Nat) × List Nat × qOu) = _
  rw [h]
  exact if_pos c
theorem qDa_e {B : Nat → Nat} {n : Nat} {sec wide : Bool} {L : List (List Nat × Int32)} {org f p p' : Nat} (h : qDo B n wide p = .inr p') (c : ¬ (qT B n p').1 = 44) : qDa B n sec wide L org (f + 1) p = (qDg B n sec wide L org p, qDb B n wide L org p, .inr p') := by
  show (match qDo B n wide p with
    | .inl x => (qDg B n sec wide L org p, [], .inl x)
    | .inr p' => if (qT B n p').1 = 44 then _ else _ : Option (Nat × Nat) × List Nat × qOu) = _
  rw [h]
  exact if_neg c
theorem x_dal {B : Nat → Nat} {n N : Nat} (hS : qS B n) (hN : 7000 ≤ N) {sec : Bool} (wide : Bool) {L : List (List Nat × Int32)} {I : List (Bool × Bool)} {org : Nat} : ∀ (f p m h : Nat) (G : Option (Nat × Nat)) (M : qMem) (σ : fv_S), n - p + 1 ≤ f → n - p + 2 ≤ m → xD B n sec L h I org G M p σ → (sec = true → h + (qDa B n sec wide L org f p).2.1.length ≤ 65536) →
    (∀ x, (qDa B n sec wide L org f p).2.2 = .inl x → ∃ σ', zX3_data_2 N m (q01 wide) 1 σ = fv_th (Int32.ofNat x.1) (Int32.ofNat x.2) σ' ∧ fv_n σ' = fv_n σ + 1 ∧ xFo σ σ' ∧ (1 ≤ x.1 ∧ x.1 ≤ 9 ∧ x.2 ≤ 6000) ∧ xR (qoe G (qDa B n sec wide L org f p).1) σ' ∧ (∀ g, qoe G (qDa B n sec wide L org f p).1 = some g → qtm (some g) x = some g)) ∧
    (∀ p', (qDa B n sec wide L org f p).2.2 = .inr p' → ∃ σ', zX3_data_2 N m (q01 wide) 1 σ = fv_rv σ' ∧ xFw σ σ' ∧ xD B n sec L (h + (qDa B n sec wide L org f p).2.1.length) I org (qoe G (qDa B n sec wide L org f p).1) (qlm (qDa B n sec wide L org f p).2.1 M h) p' σ') := by
  have hn := hS.1
  intro f
  induction f with
  | zero => intro p m h G M σ hf; omega
  | succ f ih =>
    intro p m h G M σ hf hm D hh
    obtain ⟨m, rfl⟩ : ∃ j, m = j + 1 := ⟨m - 1, by omega⟩
    obtain ⟨m, rfl⟩ : ∃ j, m = j + 1 := ⟨m - 1, by omega⟩
    have hp := D.2.1.1
    cases ho : qDo B n wide p with
    | inl x =>
      rw [qDa_i ho]
      refine ⟨fun x' hx' => ?_, fun p' hp' => absurd hp' (by simp)⟩
      have hx' := Sum.inl.inj hx'
      subst hx'
      exact (x_dit hS hN wide D (zX3_data_2 N (m + 1))).1 x ho
    | inr p1 =>
      have hl : sec = true → h + (qDb B n wide L org p).length ≤ 65536 := by
        intro hs
        have := hh hs
        by_cases c : (qT B n p1).1 = 44
        · rw [qDa_c ho c] at this; simp only [List.length_append] at this; omega
        · rw [qDa_e ho c] at this; exact this
      obtain ⟨t1, σ1, x1, f1, D1⟩ := (x_dit hS hN wide D (zX3_data_2 N (m + 1))).2 p1 ho hl
      have hp1 := D1.2.1.1
      have hb1 := qT_b hS p1 hp1
      obtain ⟨σ2, x2, f2, k2⟩ := x_look hS hN D1.1.1 D1.2.1
      have D2 : xD B n sec L (h + (qDb B n wide L org p).length) I org (qoe G (qDg B n sec wide L org p)) (qlm (qDb B n wide L org p) M h) p1 σ2 := ⟨xZ_g D1.1 f2, xAt_of hp1 k2, xR_c D1.2.2.1 (f2.1 1563 (by omega)) (f2.1 1564 (by omega)), D1.2.2.2.1, fun a b => xMe_s (D1.2.2.2.2 a b) (xMs_g f2)⟩
      have fw2 := xFw_t f1 (xFw_g f2)
      have hd : zX3_data_2 N (m + 1 + 1) (q01 wide) 1 σ = zX3_data_91 N (zX3_data_2 N (m + 1)) (q01 wide) σ1 := x1
      rw [hd]
      unfold zX3_data_91 zX3_data_108
      rw [x2, fv_bi_ri]
      by_cases c : (qT B n p1).1 = 44
      · obtain ⟨σ3, x3, f3, a3, _⟩ := x_pass (B := B) hb1 k2 (by omega) (by omega)
        have u1 := hb1.1
        have u2 := hb1.2.2.2.1 (by omega) (by omega)
        have u3 := hb1.2.2.1
        have D3 : xD B n sec L (h + (qDb B n wide L org p).length) I org (qoe G (qDg B n sec wide L org p)) (qlm (qDb B n wide L org p) M h) (qT B n p1).2.2.1 σ3 := ⟨xZ_g D2.1 f3, a3, xR_c D2.2.2.1 (f3.1 1563 (by omega)) (f3.1 1564 (by omega)), fun g hg => by have := D2.2.2.2.1 g hg; omega, fun a b => xMe_s (D2.2.2.2.2 a b) (xMs_g f3)⟩
        have fw3 := xFw_t fw2 (xFw_g f3)
        rw [if_neg (show ¬ ¬ qxk n (qT B n p1) = 44 from not_not_intro ((qxk_ne hb1 44 (by omega) (by omega) (by omega)).2 c)), if_neg (show ¬ (1 : Int32) = 0 by decide), x3, fv_bv_rv]
        rw [qDa_c ho c] at hh ⊢
        have hh3 : sec = true → h + (qDb B n wide L org p).length + (qDa B n sec wide L org f (qT B n p1).2.2.1).2.1.length ≤ 65536 := fun hs => by
          have := hh hs
          simp only [List.length_append] at this; omega
        obtain ⟨A, C⟩ := ih (qT B n p1).2.2.1 (m + 1) (h + (qDb B n wide L org p).length) (qoe G (qDg B n sec wide L org p)) (qlm (qDb B n wide L org p) M h) σ3 (by omega) (by omega) D3 hh3
        refine ⟨fun x hx => ?_, fun p' hp' => ?_⟩
        · obtain ⟨σ', y1, y2, y3, y4, y5, y6⟩ := A x hx
          rw [qoe_a] at y5 y6
          exact ⟨σ', y1, y2.trans (by rw [fw3.2.1]), xFo_t fw3.1 y3, y4, y5, y6⟩
        · obtain ⟨σ', y1, y2, y3⟩ := C p' hp'
          refine ⟨σ', y1, xFw_t fw3 y2, ?_⟩
          rw [qoe_a] at y3
          show xD B n sec L (h + (qDb B n wide L org p ++ (qDa B n sec wide L org f (qT B n p1).2.2.1).2.1).length) I org _ (qlm (qDb B n wide L org p ++ (qDa B n sec wide L org f (qT B n p1).2.2.1).2.1) M h) p' σ'
          rw [List.length_append, qlm_app, ← Nat.add_assoc]; exact y3
      · rw [if_pos (show ¬ qxk n (qT B n p1) = 44 from fun e => c ((qxk_ne hb1 44 (by omega) (by omega) (by omega)).1 e)), if_pos rfl]
        rw [qDa_e ho c]
        refine ⟨fun x hx => absurd hx (by simp), fun p' hp' => ?_⟩
        have hp' := Sum.inr.inj hp'
        subst hp'
        refine ⟨σ2, ?_, fw2, D2⟩
        show zX3_data_2_b _ _ _ _ _ = _
        unfold zX3_data_2_b
        rw [if_pos rfl]
theorem qDg_sec {B : Nat → Nat} {n : Nat} {wide : Bool} {L : List (List Nat × Int32)} {org p : Nat} : qDg B n false wide L org p = none := by
  unfold qDg
  by_cases c : wide = false ∧ (qT B n p).1 = 3
  · rw [if_pos c]
  · rw [if_neg c, if_neg (by decide)]
theorem qDa_g {B : Nat → Nat} {n : Nat} {wide : Bool} {L : List (List Nat × Int32)} {org : Nat} : ∀ f p, (qDa B n false wide L org f p).1 = none := by
  intro f
  induction f with
  | zero => intro p; rfl
  | succ f ih =>
    intro p
    cases ho : qDo B n wide p with
    | inl x => rw [qDa_i ho]; exact qDg_sec
    | inr p1 =>
      by_cases c : (qT B n p1).1 = 44
      · rw [qDa_c ho c]; show qoe (qDg B n false wide L org p) (qDa B n false wide L org f (qT B n p1).2.2.1).1 = none; rw [qDg_sec, ih]; rfl
      · rw [qDa_e ho c]; exact qDg_sec
/-- DB, DW -/
theorem x_data {B : Nat → Nat} {n N p : Nat} (hS : qS B n) (hN : 7000 ≤ N) {sec : Bool} (wide : Bool) {L : List (List Nat × Int32)} {h : Nat} {I : List (Bool × Bool)} {org : Nat} {M : qMem} {σ : fv_S} (z : xZ B n sec L h I org σ) (ha : xAt B n p σ) (hR : xR none σ) (hM : sec = true → xMe M σ) (hh : sec = true → h + (qDa B n sec wide L org 6002 p).2.1.length ≤ 65536) :
    xSo B n (qDa B n sec wide L org 6002 p).1 (qDa B n sec wide L org 6002 p).2.2 (fun σ' => xZ B n sec L (h + (qDa B n sec wide L org 6002 p).2.1.length) I org σ' ∧ (sec = true → xMe (qlm (qDa B n sec wide L org 6002 p).2.1 M h) σ')) σ (zX3_statement_167 N (q01 wide) σ) := by
  have hn := hS.1
  obtain ⟨A, C⟩ := x_dal (N := N) hS hN wide 6002 p N h none M σ (by omega) (by omega) ⟨z, ha, hR, fun f hf => absurd hf (by simp), fun hs _ => hM hs⟩ hh
  have hg := @qDa_g B n wide L org 6002 p
  unfold zX3_statement_167 zX3_data
  have en : ∀ r : Option (Nat × Nat), qoe none r = r := fun _ => rfl
  rw [en] at A C
  cases ho : (qDa B n sec wide L org 6002 p).2.2 with
  | inl x =>
    obtain ⟨σ', y1, y2, y3, y4, y5, y6⟩ := A x ho
    rw [y1, fv_bv_th]
    exact ⟨σ', rfl, y2, y3, y4, y5, y6⟩
  | inr p' =>
    obtain ⟨σ', y1, y2, y3, y4, y5, y6, y7⟩ := C p' ho
    rw [y1, fv_bv_rv]
    refine ⟨σ', rfl, y2.2.1, y2.1, y2.2.2, y3.1, y4, y5, y6, fun h0 => ⟨y3, fun hs => y7 hs h0⟩, fun h0 => ?_⟩
    have hs : sec = true := by
      cases hx : sec with
      | true => rfl
      | false => rw [hx] at h0; exact absurd hg h0
    rw [y3.2.2.2.2.1]
    have := hh hs
    exact (p_leN _ 65536 (by omega) (by omega)).2 this
