set_option maxRecDepth 100000
set_option maxHeartbeats 4000000
/-! The plain law: DB and DW in the class. -/
def qDl (wide : Bool) : Int32 := if wide = true then -32768 else -128
def qDh (wide : Bool) : Int32 := if wide = true then 65535 else 255
/-- an item: what is told of it, its octets, its outcome -/
noncomputable def qDg (B : Nat → Nat) (n : Nat) (sec wide : Bool) (L : List (List Nat × Int32)) (org p : Nat) : Option (Nat × Nat) := if wide = false ∧ (qT B n p).1 = 3 then none else if sec = true then qkg ((qEX B n p).1 (qen L org)).1 ((qEX B n p).1 (qen L org)).2 (qEX B n p).2 (qDl wide) (qDh wide) (qT B n p).2.1 else none
noncomputable def qDb (B : Nat → Nat) (n : Nat) (wide : Bool) (L : List (List Nat × Int32)) (org p : Nat) : List Nat := if wide = false ∧ (qT B n p).1 = 3 then (List.range ((qT B n p).2.2.1 - (qT B n p).2.1 - 2)).map (fun i => B ((qT B n p).2.1 + 1 + i)) else if wide = true then [qoc ((qEX B n p).1 (qen L org)).2, qoc (((qEX B n p).1 (qen L org)).2 >>> 8)] else [qoc ((qEX B n p).1 (qen L org)).2]
noncomputable def qDo (B : Nat → Nat) (n : Nat) (wide : Bool) (p : Nat) : qOu := if wide = false ∧ (qT B n p).1 = 3 then .inr (qT B n p).2.2.1 else (qEX B n p).2
noncomputable def qDa (B : Nat → Nat) (n : Nat) (sec wide : Bool) (L : List (List Nat × Int32)) (org : Nat) : Nat → Nat → Option (Nat × Nat) × List Nat × qOu
  | 0, _ => (none, [], .inl (2, 0))
  | f + 1, p => match qDo B n wide p with
    | .inl x => (qDg B n sec wide L org p, [], .inl x)
    | .inr p' => if (qT B n p').1 = 44 then (qoe (qDg B n sec wide L org p) (qDa B n sec wide L org f (qT B n p').2.2.1).1, qDb B n wide L org p ++ (qDa B n sec wide L org f (qT B n p').2.2.1).2.1, (qDa B n sec wide L org f (qT B n p').2.2.1).2.2) else (qDg B n sec wide L org p, qDb B n wide L org p, .inr p')
theorem qT_3 {B : Nat → Nat} {n p : Nat} (h : (qT B n p).1 = 3) : (qT B n p).2.1 + 2 ≤ (qT B n p).2.2.1 := by
  unfold qT at h ⊢
  generalize qrun (fun i => qbl (B i)) n p = q at h ⊢
  have tn : ∀ r s, (qTn B n r q s).1 ≠ 3 := by
    intro r s; unfold qTn; split
    · show (6 : Nat) ≠ 3; omega
    · show (2 : Nat) ≠ 3; omega
  unfold qTq at h ⊢
  split
  · rename_i c; rw [if_pos c] at h; exact absurd h (show ¬ (0 : Nat) = 3 by omega)
  rename_i c1; rw [if_neg c1] at h
  split
  · rename_i c; rw [if_pos c] at h; exact absurd h (show ¬ (0 : Nat) = 3 by omega)
  rename_i c2; rw [if_neg c2] at h
  split
  · rename_i c; rw [if_pos c] at h
    split at h
    · exact absurd h (show ¬ (6 : Nat) = 3 by omega)
    · exact absurd h (show ¬ (1 : Nat) = 3 by omega)
  rename_i c3; rw [if_neg c3] at h
  split
  · rename_i c; rw [if_pos c] at h; exact absurd h (tn _ _)
  rename_i c4; rw [if_neg c4] at h
  split
  · rename_i c; rw [if_pos c] at h; exact absurd h (tn _ _)
  rename_i c5; rw [if_neg c5] at h
  split
  · rename_i c; rw [if_pos c] at h; exact absurd h (tn _ _)
  rename_i c6; rw [if_neg c6] at h
  split
  · rename_i c; rw [if_pos c] at h
    split at h
    · exact absurd h (show ¬ (2 : Nat) = 3 by omega)
    · exact absurd h (show ¬ (6 : Nat) = 3 by omega)
  rename_i c7; rw [if_neg c7] at h
  split
  · rename_i c; rw [if_pos c] at h
    split at h
    · rename_i c'; rw [if_pos c']
      have := (qrun_le (fun i => qtx (B i)) n (q + 1)).1
      show q + 2 ≤ qrun (fun i => qtx (B i)) n (q + 1) + 1
      omega
    · exact absurd h (show ¬ (6 : Nat) = 3 by omega)
  rename_i c8; rw [if_neg c8] at h
  split
  · rename_i c; rw [if_pos c] at h
    exact absurd h (show ¬ (if B q = 60 then 4 else 5) = 3 by split <;> omega)
  rename_i c9; rw [if_neg c9] at h
  split
  · rename_i c; rw [if_pos c] at h
    have := qsg_lt c
    exact absurd h (show ¬ B q = 3 by omega)
  · rename_i c; rw [if_neg c] at h
    exact absurd h (show ¬ (6 : Nat) = 3 by omega)
def xD (B : Nat → Nat) (n : Nat) (sec : Bool) (L : List (List Nat × Int32)) (h : Nat) (I : List (Bool × Bool)) (org : Nat) (G : Option (Nat × Nat)) (M : qMem) (p : Nat) (σ : fv_S) : Prop := xZ B n sec L h I org σ ∧ xAt B n p σ ∧ xR G σ ∧ (∀ f, G = some f → f.2 < p) ∧ (sec = true → G = none → xMe M σ)
def xFw (σ σ' : fv_S) : Prop := xFo σ σ' ∧ fv_n σ' = fv_n σ ∧ fv_gi σ' 1548 = fv_gi σ 1548
theorem xFw_t {a b c : fv_S} (h : xFw a b) (g : xFw b c) : xFw a c := ⟨xFo_t h.1 g.1, g.2.1.trans h.2.1, g.2.2.trans h.2.2⟩
theorem xFw_g {a b : fv_S} (h : qGx a b) : xFw a b := ⟨xFo_g h, qGx_n h, h.1 1548 (by omega)⟩
theorem xFw_y {a b : fv_S} (h : xFy a b) : xFw a b := ⟨xFo_y h, h.2.2.2, h.1 1548 (by omega) (by omega) (by omega) (by omega)⟩
theorem xFw_x {a b : fv_S} (h : xFx a b) (hn : fv_n b = fv_n a) : xFw a b := ⟨xFo_x h, hn, h.1 1548 (by omega) (by omega) (by omega) (by omega) (by omega) (by omega)⟩
theorem x_txs {B : Nat → Nat} {n N p : Nat} (hS : qS B n) (hN : 7000 ≤ N) {sec : Bool} {L : List (List Nat × Int32)} {h : Nat} {I : List (Bool × Bool)} {org : Nat} {G : Option (Nat × Nat)} {M : qMem} {σ : fv_S} (D : xD B n sec L h I org G M p σ) (k : qXt n (qT B n p) σ) (ht : (qT B n p).1 = 3) (hh : sec = true → h + ((qT B n p).2.2.1 - (qT B n p).2.1 - 2) ≤ 65536) :
    ∃ σ', zX3_texts N σ = fv_rv σ' ∧ xFw σ σ' ∧ xD B n sec L (h + ((qT B n p).2.2.1 - (qT B n p).2.1 - 2)) I org G (qlm ((List.range ((qT B n p).2.2.1 - (qT B n p).2.1 - 2)).map (fun i => B ((qT B n p).2.1 + 1 + i))) M h) (qT B n p).2.2.1 σ' := by
  have hn := hS.1
  have hp := D.2.1.1
  have hb := qT_b hS p hp
  have t3 := qT_3 ht
  have b3 := hb.2.2.1
  have b1 := hb.1
  generalize hw : (qT B n p).2.2.1 - (qT B n p).2.1 - 2 = w at hh ⊢
  have lp : ∀ (d i m : Nat) (s : fv_S), w - i = d → i ≤ w → d + 1 ≤ m → xFy σ s → xZ B n sec L (h + i) I org s → (sec = true → G = none → xMe (qlm ((List.range i).map (fun j => B ((qT B n p).2.1 + 1 + j))) M h) s) → ∃ σ', zX3_texts_2 N m (Int32.ofNat (i + 1)) s = fv_rv σ' ∧ xFw σ σ' ∧ xD B n sec L (h + w) I org G (qlm ((List.range w).map (fun j => B ((qT B n p).2.1 + 1 + j))) M h) (qT B n p).2.2.1 σ' := by
    intro d
    induction d with
    | zero =>
      intro i m s e hi hm f z hMe
      obtain ⟨m, rfl⟩ : ∃ j, m = j + 1 := ⟨m - 1, by omega⟩
      have ei : i = w := by omega
      subst ei
      have ks : qXt n (qT B n p) s := by
        have g : ∀ j, 1667 ≤ j → j ≤ 1672 → fv_gi s j = fv_gi σ j := fun j h1 h2 => f.1 j (by omega) (by omega) (by omega) (by omega)
        exact ⟨(g 1668 (by omega) (by omega)).trans k.1, (g 1669 (by omega) (by omega)).trans k.2.1, (g 1670 (by omega) (by omega)).trans k.2.2.1, fun a b => (g 1671 (by omega) (by omega)).trans (k.2.2.2.1 a b), fun a => absurd a (by omega), fun a => absurd a (by omega)⟩
      obtain ⟨σ2, x2, f2, a2, _⟩ := x_pass (B := B) hb ks (by omega) (by omega)
      refine ⟨σ2, ?_, xFw_t (xFw_y f) (xFw_g f2), xZ_g z f2, a2, xR_c (xR_y D.2.2.1 f) (f2.1 1563 (by omega)) (f2.1 1564 (by omega)), fun g hg => by have := D.2.2.2.1 g hg; omega, fun hs hG => xMe_s (hMe hs hG) (xMs_g f2)⟩
      show zX3_texts_2_b _ _ _ _ = _
      unfold zX3_texts_2_b
      rw [ks.2.2.2.1 (by omega) (by omega), p_prN _ (by omega), if_pos ((p_leN _ _ (by omega) (by omega)).2 (by omega)), x2, fv_bv_rv]
    | succ d ih =>
      intro i m s e hi hm f z hMe
      obtain ⟨m, rfl⟩ : ∃ j, m = j + 1 := ⟨m - 1, by omega⟩
      have g : ∀ j, 1667 ≤ j → j ≤ 1672 → fv_gi s j = fv_gi σ j := fun j h1 h2 => f.1 j (by omega) (by omega) (by omega) (by omega)
      obtain ⟨i1, i2⟩ := p_inN ((qT B n p).2.1 + (i + 1)) 6000 (by omega) (by omega)
      have hv : fv_ga s 14 (Int32.ofNat ((qT B n p).2.1 + (i + 1))) = p_se (Int32.ofNat (B ((qT B n p).2.1 + 1 + i))) := by
        show fv_gw s 14 (Int32.ofNat ((qT B n p).2.1 + (i + 1))).toNatClampNeg = _
        rw [i2, (z.1.2 _ (by omega)).1, show (qT B n p).2.1 + (i + 1) = (qT B n p).2.1 + 1 + i by omega]
      obtain ⟨σ2, x2, z2, f2, m2⟩ := x_lay z (xR_y D.2.2.1 f) hMe (fun hs => by have := hh hs; omega) (p_se (Int32.ofNat (B ((qT B n p).2.1 + 1 + i))))
      have st : zX3_texts_2 N (m + 1) (Int32.ofNat (i + 1)) s = zX3_texts_2 N m (Int32.ofNat (i + 1 + 1)) σ2 := by
        show zX3_texts_2_b _ _ _ _ = _
        unfold zX3_texts_2_b
        rw [g 1671 (by omega) (by omega), k.2.2.2.1 (by omega) (by omega), p_prN _ (by omega), if_neg (fun e => by have := (p_leN _ _ (by omega) (by omega)).1 e; omega), g 1670 (by omega) (by omega), k.2.2.1, ← Int32.ofNat_add, if_pos i1, hv, x2, fv_bv_rv, p_sucN]
      rw [st]
      refine ih (i + 1) m σ2 (by omega) (by omega) (by omega) (xFy_t f f2) z2 (fun hs hG => ?_)
      have := m2 hs hG
      rw [qoc_pse _ (hS.2.1 _)] at this
      rw [List.range_succ, List.map_append, qlm_app, List.length_map, List.length_range]
      exact this
  unfold zX3_texts
  exact lp w 0 N σ (by omega) (by omega) (by omega) (xFy_r σ) D.1 D.2.2.2.2
/-- one item -/
theorem x_dit {B : Nat → Nat} {n N p : Nat} (hS : qS B n) (hN : 7000 ≤ N) {sec : Bool} (wide : Bool) {L : List (List Nat × Int32)} {h : Nat} {I : List (Bool × Bool)} {org : Nat} {G : Option (Nat × Nat)} {M : qMem} {σ : fv_S} (D : xD B n sec L h I org G M p σ) (k2 : Int32 → Int32 → fv_S → Option fv_O) :
    (∀ f, qDo B n wide p = .inl f → ∃ σ', zX3_data_2_b N k2 (q01 wide) 1 σ = fv_th (Int32.ofNat f.1) (Int32.ofNat f.2) σ' ∧ fv_n σ' = fv_n σ + 1 ∧ xFo σ σ' ∧ (1 ≤ f.1 ∧ f.1 ≤ 9 ∧ f.2 ≤ 6000) ∧ xR (qoe G (qDg B n sec wide L org p)) σ' ∧ (∀ g, qoe G (qDg B n sec wide L org p) = some g → qtm (some g) f = some g)) ∧
    (∀ p', qDo B n wide p = .inr p' → (sec = true → h + (qDb B n wide L org p).length ≤ 65536) → p < p' ∧ ∃ σ', zX3_data_2_b N k2 (q01 wide) 1 σ = zX3_data_91 N k2 (q01 wide) σ' ∧ xFw σ σ' ∧ xD B n sec L (h + (qDb B n wide L org p).length) I org (qoe G (qDg B n sec wide L org p)) (qlm (qDb B n wide L org p) M h) p' σ') := by
  have hn := hS.1
  have D0 := D
  obtain ⟨z, ha, hR, hG, hM⟩ := D
  have hp := ha.1
  have hb := qT_b hS p hp
  by_cases ct : wide = false ∧ (qT B n p).1 = 3
  · -- a text
    unfold qDo qDg qDb
    rw [if_pos ct, if_pos ct, if_pos ct, qoe_n]
    refine ⟨fun f hf => absurd hf (by simp), fun p' hp' hh => ?_⟩
    have hp' := (Sum.inr.inj hp').symm
    subst hp'
    have t3 := qT_3 ct.2
    have b1 := hb.1
    refine ⟨by omega, ?_⟩
    obtain ⟨σ1, x1, f1, k1⟩ := x_look hS hN z.1 ha
    rw [List.length_map, List.length_range] at hh ⊢
    have D1 : xD B n sec L h I org G M p σ1 := ⟨xZ_g z f1, xAt_of hp k1, xR_c hR (f1.1 1563 (by omega)) (f1.1 1564 (by omega)), hG, fun hs hg => xMe_s (hM hs hg) (xMs_g f1)⟩
    obtain ⟨σ2, x2, f2, D2⟩ := x_txs hS hN D1 k1 ct.2 hh
    refine ⟨σ2, ?_, xFw_t (xFw_g f1) f2, D2⟩
    unfold zX3_data_2_b
    rw [if_neg (show ¬ (1 : Int32) = 0 by decide), ct.1, if_neg (show ¬ ¬ q01 false = 0 by decide), x1, fv_bi_ri, if_neg (show ¬ ¬ qxk n (qT B n p) = 3 from not_not_intro ((qxk_ne hb 3 (by omega) (by omega) (by omega)).2 ct.2)), x2, fv_bv_rv]
  · -- an expression
    have hd : ∃ σ0, zX3_data_2_b N k2 (q01 wide) 1 σ = zX3_data_28 N k2 (q01 wide) σ0 ∧ qGx σ σ0 ∧ xAt B n p σ0 := by
      unfold zX3_data_2_b
      rw [if_neg (show ¬ (1 : Int32) = 0 by decide)]
      cases hw : wide with
      | true => rw [if_pos (show ¬ q01 true = 0 by decide)]; exact ⟨σ, rfl, qGx_r σ, ha⟩
      | false =>
        obtain ⟨σ1, x1, f1, k1⟩ := x_look hS hN z.1 ha
        rw [if_neg (show ¬ ¬ q01 false = 0 by decide), x1, fv_bi_ri, if_pos (show ¬ qxk n (qT B n p) = 3 from fun e => ct ⟨hw, (qxk_ne hb 3 (by omega) (by omega) (by omega)).1 e⟩)]
        exact ⟨σ1, rfl, f1, xAt_of hp k1⟩
    obtain ⟨σ0, x0, f0, a0⟩ := hd
    have z0 := xZ_g z f0
    have r0 : xR G σ0 := xR_c hR (f0.1 1563 (by omega)) (f0.1 1564 (by omega))
    have R := x_ex hS hN (K := sec) (L := L) (org := org) z0.1 z0.2.1 z0.2.2.2.2.2.1 z0.2.2.2.2.2.2.1 (by rw [z0.2.2.1, z0.2.2.2.1.1]; cases sec <;> decide) a0 r0 hG
    have lt := Ps_lt hS (qEX_s hS hp) hp
    have st := Ps_st hS (qEX_s hS hp) rfl hp
    have ge := qEX_ge hS hp (qen L org)
    have elen : (qDb B n wide L org p).length = if wide = true then 2 else 1 := by
      unfold qDb; rw [if_neg ct]; split <;> rfl
    rw [x0, elen]
    unfold qDo qDg qDb
    rw [if_neg ct, if_neg ct, if_neg ct]
    unfold zX3_data_28
    generalize hgg : ((qEX B n p).1 (qen L org)).1 = g at R ge ⊢
    generalize ((qEX B n p).1 (qen L org)).2 = v at R ⊢
    generalize (qEX B n p).2 = o at R lt st ⊢
    cases o with
    | inl f =>
      refine ⟨fun f' hf' => ?_, fun p' h => absurd h (by simp)⟩
      have hf' := (Sum.inl.inj hf').symm
      subst hf'
      obtain ⟨σ', y1, y2, y3, y4, y5, y6⟩ := R
      rw [y1, fv_bi_th]
      exact ⟨σ', rfl, y3.trans (by rw [qGx_n f0]), xFo_t (xFo_g f0) (xFo_x y2), ⟨y4.1, by omega, by omega⟩, y5, fun g hg => qtm_lt (y6 g hg)⟩
    | inr p' =>
      refine ⟨fun f h => absurd h (by simp), fun p1 hp1 hh => ?_⟩
      have hp1 := Sum.inr.inj hp1
      subst hp1
      obtain ⟨w, σ', y1, y2, y3, y4, y5, y6, y7, y8, y9⟩ := R
      have t := lt p' rfl
      have ts := st p' rfl
      refine ⟨t.2.2 rfl, ?_⟩
      have z' := xZ_f z0 y2 y4
      have fw' : xFw σ σ' := xFw_t (xFw_g f0) (xFw_x y2 y3)
      -- the range
      have rng : ∃ σ4, (if fv_gi σ' 1560 = 0 then zX3_data_74 N k2 (q01 wide) w σ' else if q01 wide = 0 then zX3_data_54 N k2 (q01 wide) w w (-128) σ' else zX3_data_54 N k2 (q01 wide) w w (-32768) σ') = zX3_data_74 N k2 (q01 wide) w σ4 ∧ xFw σ σ4 ∧ xZ B n sec L h I org σ4 ∧ xAt B n p' σ4 ∧ xR (qoe G (if sec = true then qoe g (if qin v (qDl wide) (qDh wide) = true then none else some (5, (qT B n p).2.1)) else none)) σ4 ∧ (∀ f, qoe G (if sec = true then qoe g (if qin v (qDl wide) (qDh wide) = true then none else some (5, (qT B n p).2.1)) else none) = some f → f.2 < p') ∧ xMs σ σ4 ∧ (sec = true → qoe G (if sec = true then qoe g (if qin v (qDl wide) (qDh wide) = true then none else some (5, (qT B n p).2.1)) else none) = none → w = v) := by
        have e54 : (if q01 wide = 0 then zX3_data_54 N k2 (q01 wide) w w (-128) σ' else zX3_data_54 N k2 (q01 wide) w w (-32768) σ') = zX3_data_67 N k2 (q01 wide) w w (qDl wide) (qDh wide) σ' := by
          cases wide with
          | true => rw [if_neg (show ¬ q01 true = 0 by decide)]; unfold zX3_data_54; rw [if_neg (show ¬ q01 true = 0 by decide)]; rfl
          | false => rw [if_pos (show q01 false = 0 by decide)]; unfold zX3_data_54; rw [if_pos (show q01 false = 0 by decide)]; rfl
        have ms' : xMs σ σ' := xMs_t (xMs_g f0) (xMs_x y2)
        rw [e54]
        by_cases c0 : fv_gi σ' 1560 = 0
        · rw [if_pos c0]
          by_cases hs : sec = true
          · obtain ⟨k1, k2'⟩ := y9 hs
            have hg := k1.1 c0
            rw [if_pos hs] at y7 y8
            have eg : qoe g (if qin v (qDl wide) (qDh wide) = true then none else some (5, (qT B n p).2.1)) = g := by
              cases g with
              | none => exact absurd rfl hg
              | some f => rfl
            rw [if_pos hs, eg]
            exact ⟨σ', rfl, fw', z', y6, y7, y8, ms', fun _ h0 => absurd (qoe_no h0).2 hg⟩
          · rw [if_neg hs] at y7 y8 ⊢
            exact ⟨σ', rfl, fw', z', y6, y7, y8, ms', fun h => absurd h hs⟩
        · rw [if_neg c0]
          obtain ⟨σ4, x4, r4, f4, f4'⟩ := x_inr (sec := sec) (G := qoe G (if sec = true then g else none)) z'.2.2.1 y7 w (qDl wide) (qDh wide) (qT B n p).2.1 (by have := hb.2.1; omega)
          unfold zX3_data_67
          rw [y5, x4, fv_bv_rv]
          have fx4 := xFx_tl f4 f4'
          have z4 := xZ_f z' fx4 ((f4 1562 (by omega) (by omega)).trans y4)
          have fw4 : xFw σ σ4 := xFw_t fw' (xFw_x fx4 (by show σ4.2.2.2 = _; rw [f4']))
          have a4 := xAt_c y6 (σ' := σ4) (fun k h1 h2 => f4 k (by omega) (by omega))
          have ms4 := xMs_t ms' (xMs_x fx4)
          by_cases hs : sec = true
          · obtain ⟨k1, k2'⟩ := y9 hs
            have hg : g = none := by
              cases g with
              | none => rfl
              | some f => exact absurd (k1.2 (by simp)) c0
            subst hg
            have ew := k2' rfl
            subst ew
            rw [if_pos hs, qoe_n] at r4 y8
            rw [if_pos hs]
            show ∃ σ4, _ ∧ _ ∧ _ ∧ _ ∧ xR (qoe G (if qin w (qDl wide) (qDh wide) = true then none else some (5, (qT B n p).2.1))) σ4 ∧ (∀ f, qoe G (if qin w (qDl wide) (qDh wide) = true then none else some (5, (qT B n p).2.1)) = some f → f.2 < p') ∧ _ ∧ _
            cases hi : qin w (qDl wide) (qDh wide) with
            | true =>
              rw [hi, if_neg (fun e => absurd e.2 (by decide))] at r4
              rw [if_pos rfl, qoe_n]
              exact ⟨σ4, rfl, fw4, z4, a4, r4, y8, ms4, fun _ _ => rfl⟩
            | false =>
              rw [hi, if_pos ⟨hs, rfl⟩] at r4
              rw [if_neg (by decide)]
              have eo : qtm G (5, (qT B n p).2.1) = qoe G (some (5, (qT B n p).2.1)) := qto_oe (G := G) (g := some (5, (qT B n p).2.1)) (p := p) hG (fun f hf => by have := Option.some.inj hf; rw [← this]; exact hb.1)
              rw [eo] at r4
              refine ⟨σ4, rfl, fw4, z4, a4, r4, fun f hf => ?_, ms4, fun _ _ => rfl⟩
              cases G with
              | some f0 => exact y8 f hf
              | none => have := Option.some.inj hf; rw [← this]; exact ts
          · rw [if_neg hs, qoe_n] at y8
            rw [if_neg (fun e => hs e.1), if_neg hs, qoe_n] at r4
            rw [if_neg hs, qoe_n]
            exact ⟨σ4, rfl, fw4, z4, a4, r4, y8, ms4, fun h => absurd h hs⟩
      obtain ⟨σ4, x4, fw4, z4, a4, r4, l4, ms4, v4⟩ := rng
      rw [y1, fv_bi_ri, x4]
      show ∃ σ', _ ∧ _ ∧ xD B n sec L _ I org (qoe G (if sec = true then qoe g (if qin v (qDl wide) (qDh wide) = true then none else some (5, (qT B n p).2.1)) else none)) _ p' σ'
      generalize (if sec = true then qoe g (if qin v (qDl wide) (qDh wide) = true then none else some (5, (qT B n p).2.1)) else none) = g' at r4 l4 v4 ⊢
      unfold zX3_data_74
      have hM4 : sec = true → qoe G g' = none → xMe M σ4 := fun hs h0 => xMe_s (hM hs (qoe_no h0).1) ms4
      obtain ⟨σ5, x5, z5, f5, m5⟩ := x_lay z4 r4 hM4 (fun hs => by have := hh hs; split at this <;> omega) w
      rw [x5, fv_bv_rv]
      by_cases hw : wide = true
      · rw [if_pos hw] at hh
        rw [if_neg (show ¬ q01 wide = 0 by rw [hw]; decide), if_pos hw, if_pos hw]
        obtain ⟨σ6, x6, z6, f6, m6⟩ := x_lay z5 (xR_y r4 f5) m5 (fun hs => by have := hh hs; omega) (w >>> 8)
        rw [x6, fv_bv_rv]
        have f56 := xFy_t f5 f6
        refine ⟨σ6, rfl, xFw_t fw4 (xFw_y f56), z6, xAt_y a4 f56, xR_y r4 f56, l4, fun hs h0 => ?_⟩
        have := m6 hs h0
        rw [v4 hs h0] at this; exact this
      · rw [if_neg hw] at hh
        rw [if_pos (show q01 wide = 0 by cases hx : wide; rfl; exact absurd hx hw), if_neg hw, if_neg hw]
        refine ⟨σ5, rfl, xFw_t fw4 (xFw_y f5), z5, xAt_y a4 f5, xR_y r4 f5, l4, fun hs h0 => ?_⟩
        have := m5 hs h0
        rw [v4 hs h0] at this; exact this
