set_option maxRecDepth 100000
set_option maxHeartbeats 4000000
/-! The plain law: the class reads expressions. -/
def xQ (B : Nat → Nat) (n N : Nat) (L : List (List Nat × Int32)) (K : Prop) (e : qEv) (a : Option qSm) (l d p : Nat) (s : qSm) (o : qOu) : Prop := d ≤ 40 → match a with
  | none => ∀ r0 G σ, xS B n L K e r0 G d p σ → xOu B n K r0 (qoe G (s e).1) d (s e).2 o σ (xfl N (zX3_rU N (45 - d)) l σ)
  | some s0 => ∀ r0 G m w σ, n - p + 1 ≤ m → xS B n L K e r0 (qoe G (s0 e).1) d p σ → (K → qoe G (s0 e).1 = none → w = (s0 e).2) → xOu B n K r0 (qoe G (s e).1) d (s e).2 o σ (xlp N (zX3_rU N (45 - d)) l m w σ)
theorem x_un7 (N d : Nat) (hd : d ≤ 40) (σ : fv_S) : xfl N (zX3_rU N (45 - d)) 7 σ = zX3_unary N (zX3_rU N (44 - d)) σ := by
  rw [show 45 - d = (44 - d) + 1 by omega]; rfl
theorem x_nst {B : Nat → Nat} {n d p : Nat} {L : List (List Nat × Int32)} {K : Prop} {e : qEv} {r0 G : Option (Nat × Nat)} (hS : qS B n) {σ σ1 : fv_S} (hs : xS B n L K e r0 G d p σ) (hd : d < 40) (f1 : qGx σ σ1) (k1 : qXt n (qT B n p) σ1) (h0 : (qT B n p).1 ≠ 0) (h6 : (qT B n p).1 ≠ 6) : ∃ σ2, zX3_nest σ1 = fv_rv σ2 ∧ xFe σ σ2 ∧ fv_n σ2 = fv_n σ ∧ xS B n L K e r0 G (d + 1) (qT B n p).2.2.1 σ2 := by
  have hb := qT_b hS p hs.2.2.1.1
  have ed : fv_gi σ1 1562 = Int32.ofNat d := (f1.1 1562 (by omega)).trans hs.2.1
  have k2 : qXt n (qT B n p) (fv_si σ1 1562 (Int32.ofNat (d + 1))) := k1
  obtain ⟨σ2, x2, f2, a2, _⟩ := x_pass (B := B) hb k2 h0 h6
  have ff : xFe σ σ2 := xFe_t (xFe_si (xFe_g f1) 1562 (Int32.ofNat (d + 1)) (by omega)) (xFe_g f2)
  refine ⟨σ2, ?_, ff, (qGx_n f2).trans (show fv_n σ1 = fv_n σ from qGx_n f1), xI_e hs.1 ff, (f2.1 1562 (by omega)).trans rfl, a2, ?_⟩
  · unfold zX3_nest
    rw [ed, if_pos (show ¬ Int32.ofNat d = 40 from fun e => by have := (p_eqN d 40 (by omega) (by omega)).1 e; omega), p_sucN, x2, fv_bv_rv]
  · have hb1 := hb.1
    have := hb.2.2.2.1 h0 h6
    exact xG_c hs.2.2.2 (by omega) ((f2.1 1560 (by omega)).trans (f1.1 1560 (by omega))) ((f2.1 1563 (by omega)).trans (f1.1 1563 (by omega))) ((f2.1 1564 (by omega)).trans (f1.1 1564 (by omega)))
theorem x_thr {B : Nat → Nat} {n d p q a : Nat} {L : List (List Nat × Int32)} {K : Prop} {e : qEv} {r0 G : Option (Nat × Nat)} {v : Int32} {σ σ1 : fv_S} (hs : xS B n L K e r0 G d p σ) (f1 : qGx σ σ1) (ha : 1 ≤ a ∧ a ≤ 2) (hq : p ≤ q ∧ q ≤ n) : xOu B n K r0 (qoe G none) d v (.inl (a, q)) σ (fv_th (Int32.ofNat a) (Int32.ofNat q) (fv_sc σ1)) := by
  rw [qoe_n]
  have g := hs.2.2.2
  refine ⟨_, rfl, ⟨(xFe_g f1).1, (xFe_g f1).2.1, (xFe_g f1).2.2⟩, ?_, ⟨ha.1, ha.2, hq.2⟩, fun k => ⟨xR_c (g.1 k).2.1 (f1.1 1563 (by omega)) (f1.1 1564 (by omega)), fun f ef => ?_⟩, fun k => xR_c (g.2 k).2 (f1.1 1563 (by omega)) (f1.1 1564 (by omega))⟩
  · show fv_n σ1 + 1 = _; rw [qGx_n f1]
  · have := (g.1 k).2.2 f ef; show f.2 < q; omega
theorem x_exp {B : Nat → Nat} {n N : Nat} (hS : qS B n) (hN : 7000 ≤ N) (L : List (List Nat × Int32)) (K : Prop) (e : qEv) {a : Option qSm} {l d p : Nat} {s : qSm} {o : qOu} (h : Ps B n a l d p s o) : xQ B n N L K e a l d p s o := by
  have hn := hS.1
  have eqk : ∀ (p c : Nat), p ≤ n → c ≠ 0 → c ≠ 10 → c < 256 → (qT B n p).1 = c → qxk n (qT B n p) = Int32.ofNat c := fun p c hp h0 h10 hc h => (qxk_ne (qT_b hS p hp) c h0 h10 hc).2 h
  have nek : ∀ (p c : Nat), p ≤ n → c ≠ 0 → c ≠ 10 → c < 256 → (qT B n p).1 ≠ c → ¬ qxk n (qT B n p) = Int32.ofNat c := fun p c hp h0 h10 hc h e => h ((qxk_ne (qT_b hS p hp) c h0 h10 hc).1 e)
  refine (h (fun a l d p s o => Ps B n a l d p s o ∧ xQ B n N L K e a l d p s o) ⟨?_, ?_, ?_, ?_, ?_, ?_, ?_, ?_, ?_, ?_, ?_, ?_, ?_, ?_, ?_⟩).2
  · -- number
    intro d p h
    refine ⟨Ps_num d p h, fun hd r0 G σ hs => ?_⟩
    have hp := hs.2.2.1.1
    have hb := qT_b hS p hp
    obtain ⟨σ1, x1, f1, k1⟩ := x_look hS hN hs.1.1 hs.2.2.1
    obtain ⟨σ2, x2, f2, a2, _⟩ := x_pass (B := B) hb k1 (by omega) (by omega)
    have g := qGx_t f1 f2
    rw [x_un7 N d hd]
    unfold zX3_unary
    rw [x1, fv_bi_ri, if_neg (show ¬ qxk n (qT B n p) = 1 from nek p 1 hp (by omega) (by omega) (by omega) (by omega)), if_pos (show qxk n (qT B n p) = 2 from eqk p 2 hp (by omega) (by omega) (by omega) h), x2, fv_bv_rv]
    refine ⟨_, σ2, rfl, xFe_g g, qGx_n g, (g.1 1562 (by omega)).trans hs.2.1, a2, ?_, fun _ _ => k1.2.2.2.2.2 h⟩
    show xG K r0 (qoe G none) _ σ2
    rw [qoe_n]; exact xG_g hs.2.2.2 (by have := hb.1; have := hb.2.2.2.1 (by omega) (by omega); omega) g
  · -- origin
    intro d p h
    refine ⟨Ps_org d p h, fun hd r0 G σ hs => ?_⟩
    have hp := hs.2.2.1.1
    have hb := qT_b hS p hp
    obtain ⟨σ1, x1, f1, k1⟩ := x_look hS hN hs.1.1 hs.2.2.1
    obtain ⟨σ2, x2, f2, a2, _⟩ := x_pass (B := B) hb k1 (by omega) (by omega)
    have g := qGx_t f1 f2
    rw [x_un7 N d hd]
    unfold zX3_unary
    rw [x1, fv_bi_ri, if_neg (show ¬ qxk n (qT B n p) = 1 from nek p 1 hp (by omega) (by omega) (by omega) (by omega)), if_neg (show ¬ qxk n (qT B n p) = 2 from nek p 2 hp (by omega) (by omega) (by omega) (by omega)), if_neg (show ¬ qxk n (qT B n p) = 40 from nek p 40 hp (by omega) (by omega) (by omega) (by omega)), if_neg (show ¬ qxk n (qT B n p) = 45 from nek p 45 hp (by omega) (by omega) (by omega) (by omega)), if_pos (show qxk n (qT B n p) = 64 from eqk p 64 hp (by omega) (by omega) (by omega) h), x2, fv_bv_rv]
    refine ⟨_, σ2, rfl, xFe_g g, qGx_n g, (g.1 1562 (by omega)).trans hs.2.1, a2, ?_, fun _ _ => (g.1 1565 (by omega)).trans hs.1.2.2.2.1⟩
    show xG K r0 (qoe G none) _ σ2
    rw [qoe_n]; exact xG_g hs.2.2.2 (by have := hb.1; have := hb.2.2.2.1 (by omega) (by omega); omega) g
  · -- a name
    intro d p h h2
    refine ⟨Ps_nam d p h h2, fun hd r0 G σ hs => ?_⟩
    have hp := hs.2.2.1.1
    have hb := qT_b hS p hp
    have hlt := hb.2.2.2.1 (by omega) (by omega)
    have hb1 := hb.1
    have hb3 := hb.2.2.1
    obtain ⟨σ1, x1, f1, k1⟩ := x_look hS hN hs.1.1 hs.2.2.1
    have h1X := qX_f hs.1.1 f1
    have hL1 := xL_e hs.1.2.1 (xFe_g f1)
    have hl := hL1.2.1
    have g1 := xG_g hs.2.2.2 (Nat.le_refl p) f1
    rw [x_un7 N d hd]
    unfold zX3_unary
    rw [x1, fv_bi_ri, if_pos (show qxk n (qT B n p) = 1 from eqk p 1 hp (by omega) (by omega) (by omega) h)]
    have ers : zX3_reserved N σ1 = fv_ri (qxi 99 99) σ1 := by rw [x_res hS hN hb h1X k1 h, h2]
    have efd : zX5_find N (fv_gi σ1 1670) (fv_gi σ1 1671) σ1 = fv_ri (qxi (qlf (qna B (qT B n p)) L) L.length) σ1 := by
      rw [k1.2.2.1, k1.2.2.2.1 (by omega) (by omega), x_lf hS hN (by omega) h1X hL1]; rfl
    have hle := qlf_le (qna B (qT B n p)) L
    have b01 := xG_k g1
    have and1 : fv_gi σ1 1560 &&& 1 = fv_gi σ1 1560 := by rcases b01 with h | h <;> rw [h] <;> decide
    unfold zX3_name
    rw [ers, fv_bi_ri, if_pos ((qxi_neg 99 99 (by omega)).2 (by omega)), efd, fv_bi_ri]
    by_cases c : qlf (qna B (qT B n p)) L < L.length
    · -- known
      have he : L[qlf (qna B (qT B n p)) L]? = some L[qlf (qna B (qT B n p)) L] := List.getElem?_eq_getElem c
      have hv : e.1 (qna B (qT B n p)) = some (L[qlf (qna B (qT B n p)) L]).2 := by rw [hs.1.2.2.1]; unfold qlk; rw [he]; rfl
      obtain ⟨_, _, e3, _⟩ := hL1.2.2 _ _ he
      obtain ⟨i1, i2⟩ := p_inN (qlf (qna B (qT B n p)) L) 200 (by omega) (by omega)
      have exi : qxi (qlf (qna B (qT B n p)) L) L.length = Int32.ofNat (qlf (qna B (qT B n p)) L) := if_pos c
      have k2 : qXt n (qT B n p) (fv_si σ1 1560 (fv_gi σ1 1560)) := k1
      obtain ⟨σ2, x2, f2, a2, _⟩ := x_pass (B := B) hb k2 (by omega) (by omega)
      have ff : xFe σ σ2 := xFe_t (xFe_si (xFe_g f1) 1560 (fv_gi σ1 1560) (by omega)) (xFe_g f2)
      rw [if_pos ((qxi_nn _ _ (by omega)).2 c)]
      unfold zX3_name_82 zX3_name_96
      rw [if_neg (fun e => by have := (qxi_neg _ _ (by omega)).1 e; omega), and1, if_pos b01, x2, fv_bv_rv, if_pos ((qxi_nn _ _ (by omega)).2 c), exi, if_pos i1, fv_bi_ri]
      have es : (qnv (qna B (qT B n p)) (qT B n p).2.1) e = (none, (L[qlf (qna B (qT B n p)) L]).2) := by unfold qnv; rw [hv]
      rw [es]
      refine ⟨_, σ2, rfl, ff, (qGx_n f2).trans (show fv_n σ1 = fv_n σ from qGx_n f1), (f2.1 1562 (by omega)).trans ((f1.1 1562 (by omega)).trans hs.2.1), a2, ?_, fun _ _ => ?_⟩
      · show xG K r0 (qoe G none) _ σ2
        rw [qoe_n]
        exact xG_c g1 (by omega) (f2.1 1560 (by omega)) (f2.1 1563 (by omega)) (f2.1 1564 (by omega))
      · show fv_gw σ2 19 (Int32.ofNat (qlf (qna B (qT B n p)) L)).toNatClampNeg = _
        rw [i2, show fv_gw σ2 19 = fv_gw σ1 19 by show σ2.2.2.1 19 = _; rw [f2.2]; rfl]; exact e3
    · -- not known
      have he : L[qlf (qna B (qT B n p)) L]? = none := List.getElem?_eq_none (by omega)
      have hv : e.1 (qna B (qT B n p)) = none := by rw [hs.1.2.2.1]; unfold qlk; rw [he]; rfl
      have neg : qxi (qlf (qna B (qT B n p)) L) L.length < 0 := (qxi_neg _ _ (by omega)).2 c
      have nneg : ¬ (0 : Int32) ≤ qxi (qlf (qna B (qT B n p)) L) L.length := fun e => c ((qxi_nn _ _ (by omega)).1 e)
      have es : (qnv (qna B (qT B n p)) (qT B n p).2.1) e = (some (4, (qT B n p).2.1), 0) := by unfold qnv; rw [hv]
      have e82 : ∀ s : fv_S, qXt n (qT B n p) s → ∃ σ2, zX3_name_82 N (qxi (qlf (qna B (qT B n p)) L) L.length) s = fv_ri 0 σ2 ∧ qGx (fv_si s 1560 0) σ2 ∧ xAt B n (qT B n p).2.2.1 σ2 := by
        intro s ks
        have k2 : qXt n (qT B n p) (fv_si s 1560 0) := ks
        obtain ⟨σ2, x2, f2, a2, _⟩ := x_pass (B := B) hb k2 (by omega) (by omega)
        refine ⟨σ2, ?_, f2, a2⟩
        unfold zX3_name_82 zX3_name_96
        rw [if_pos neg, Int32.and_zero, if_pos (Or.inl rfl), x2, fv_bv_rv, if_neg nneg]
      rw [if_neg nneg, es]
      have hK := hs.1.2.2.2.2
      rw [← f1.1 1541 (by omega), ← f1.1 1542 (by omega)] at hK
      by_cases k : K
      · have e70 : (if ¬ fv_gi σ1 1541 = 0 then zX3_name_70 N (qxi (qlf (qna B (qT B n p)) L) L.length) σ1 else if fv_gi σ1 1542 = 0 then zX3_name_82 N (qxi (qlf (qna B (qT B n p)) L) L.length) σ1 else zX3_name_70 N (qxi (qlf (qna B (qT B n p)) L) L.length) σ1) = zX3_name_70 N (qxi (qlf (qna B (qT B n p)) L) L.length) σ1 := by
          by_cases c1 : fv_gi σ1 1541 = 0
          · rw [if_neg (not_not_intro c1), if_neg (fun c2 => hK.1 k ⟨c1, c2⟩)]
          · rw [if_pos c1]
        rw [e70]
        unfold zX3_name_70
        obtain ⟨σ3, x3, r3, f3, f3'⟩ := x_tell ((g1.1 k).2.1) (4, (qT B n p).2.1) (by show 1 ≤ 4; omega) (by show 4 ≤ 9; omega) (by show (qT B n p).2.1 ≤ 6000; have := hb.2.1; omega)
        have k3 : qXt n (qT B n p) σ3 := by
          have t := fun j (hj : 1668 ≤ j) => f3 j (by omega) (by omega)
          exact ⟨(t 1668 (by omega)).trans k1.1, (t 1669 (by omega)).trans k1.2.1, (t 1670 (by omega)).trans k1.2.2.1, fun a b => (t 1671 (by omega)).trans (k1.2.2.2.1 a b), fun a => absurd a (by omega), fun a => (t 1672 (by omega)).trans (k1.2.2.2.2.2 a)⟩
        obtain ⟨σ4, x4, f4, a4⟩ := e82 σ3 k3
        rw [k1.2.2.1, show zX3_tellFault 4 (Int32.ofNat (qT B n p).2.1) σ1 = _ from x3, fv_bv_rv, x4, fv_bi_ri]
        have ff : xFe σ σ4 := xFe_t (xFe_si (xFe_tl (xFe_g f1) f3 f3') 1560 0 (by omega)) (xFe_g f4)
        have n3 : fv_n σ3 = fv_n σ1 := by show σ3.2.2.2 = _; rw [f3']
        refine ⟨0, σ4, rfl, ff, ((qGx_n f4).trans n3).trans (qGx_n f1), (f4.1 1562 (by omega)).trans ((f3 1562 (by omega) (by omega)).trans ((f1.1 1562 (by omega)).trans hs.2.1)), a4, ⟨fun _ => ⟨?_, ?_, ?_⟩, fun nk => absurd k nk⟩, fun _ e => absurd (qoe_no e).2 (by simp)⟩
        · rw [if_neg (fun e => absurd (qoe_no e).2 (by simp))]; exact f4.1 1560 (by omega)
        · have r4 := xR_c r3 (σ' := σ4) (f4.1 1563 (by omega)) (f4.1 1564 (by omega))
          cases G with
          | none => exact r4
          | some f =>
            have hf := (g1.1 k).2.2 f rfl
            have : qtm (qto r0 (some f)) (4, (qT B n p).2.1) = qto r0 (qoe (some f) (some (4, (qT B n p).2.1))) := qtm_2 r0 f _ (by show f.2 < (qT B n p).2.1; omega)
            rw [this] at r4; exact r4
        · intro f ef
          cases G with
          | none => have := Option.some.inj ef; rw [← this]; exact hlt
          | some f' => have := (g1.1 k).2.2 f' rfl; have e2 := Option.some.inj ef; rw [← e2]; omega
      · have cK : fv_gi σ1 1541 = 0 ∧ fv_gi σ1 1542 = 0 := Decidable.byContradiction (fun h => k (hK.2 h))
        rw [if_neg (not_not_intro cK.1), if_pos cK.2]
        obtain ⟨σ4, x4, f4, a4⟩ := e82 σ1 k1
        rw [x4, fv_bi_ri]
        have ff : xFe σ σ4 := xFe_t (xFe_si (xFe_g f1) 1560 0 (by omega)) (xFe_g f4)
        exact ⟨0, σ4, rfl, ff, (qGx_n f4).trans (show fv_n σ1 = fv_n σ from qGx_n f1), (f4.1 1562 (by omega)).trans ((f1.1 1562 (by omega)).trans hs.2.1), a4, ⟨fun k' => absurd k' k, fun _ => ⟨Or.inl (f4.1 1560 (by omega)), xR_c (g1.2 k).2 (f4.1 1563 (by omega)) (f4.1 1564 (by omega))⟩⟩, fun k' => absurd k' k⟩
  · -- a reserved name
    intro d p h h2
    refine ⟨Ps_res d p h h2, fun hd r0 G σ hs => ?_⟩
    have hp := hs.2.2.1.1
    have hb := qT_b hS p hp
    obtain ⟨σ1, x1, f1, k1⟩ := x_look hS hN hs.1.1 hs.2.2.1
    have h1X := qX_f hs.1.1 f1
    rw [x_un7 N d hd]
    unfold zX3_unary
    rw [x1, fv_bi_ri, if_pos (show qxk n (qT B n p) = 1 from eqk p 1 hp (by omega) (by omega) (by omega) h)]
    unfold zX3_name
    rw [x_res hS hN hb h1X k1 h, fv_bi_ri, if_neg (fun e => (qxi_neg _ _ (by omega)).1 e h2), k1.2.2.1, fv_bi_th]
    exact x_thr hs f1 ⟨by omega, by omega⟩ ⟨hb.1, hb.2.1⟩
  · -- - and ~
    intro d p s o h hd h2
    refine ⟨Ps_una d p s o h hd h2.1, fun hd' r0 G σ hs => ?_⟩
    have hp := hs.2.2.1.1
    have hb := qT_b hS p hp
    obtain ⟨σ1, x1, f1, k1⟩ := x_look hS hN hs.1.1 hs.2.2.1
    obtain ⟨σ2, x2, ff, n2, hs2⟩ := x_nst hS hs hd f1 k1 (by omega) (by omega)
    have ih := h2.2 (by omega) r0 G σ2 hs2
    have e7 : xfl N (zX3_rU N (45 - (d + 1))) 7 σ2 = zX3_rU N (44 - d) σ2 := by rw [show 45 - (d + 1) = 44 - d by omega]; rfl
    rw [e7] at ih
    have dec : Int32.ofNat (d + 1) - 1 = Int32.ofNat d := by rw [show (1 : Int32) = Int32.ofNat 1 from rfl, p_subN _ _ (by omega)]; rfl
    rw [x_un7 N d hd']
    unfold zX3_unary
    rw [x1, fv_bi_ri, if_neg (show ¬ qxk n (qT B n p) = 1 from nek p 1 hp (by omega) (by omega) (by omega) (by omega)), if_neg (show ¬ qxk n (qT B n p) = 2 from nek p 2 hp (by omega) (by omega) (by omega) (by omega)), if_neg (show ¬ qxk n (qT B n p) = 40 from nek p 40 hp (by omega) (by omega) (by omega) (by omega))]
    refine xOu_t ff n2 ?_
    have fin : ∀ (op : Int32 → Int32), (qun (qT B n p).1 s e).2 = op (s e).2 → xOu B n K r0 (qoe G (qun (qT B n p).1 s e).1) d (qun (qT B n p).1 s e).2 o σ2 (fv_bi (zX3_rU N (44 - d) σ2) (fun r12 σ11 => fv_ri (op r12) (fv_si σ11 1562 (fv_gi σ11 1562 - 1))) fv_th) := by
      intro op eo
      rw [eo]
      show xOu B n K r0 (qoe G (s e).1) d (op (s e).2) o σ2 _
      cases o with
      | inl f =>
        obtain ⟨σ', y1, y2, y3, y4⟩ := ih
        rw [y1]
        exact ⟨σ', rfl, y2, y3, y4⟩
      | inr p' =>
        obtain ⟨w, σ', y1, y2, y3, y4, y5, y6, y7⟩ := ih
        rw [y1, fv_bi_ri, y4, dec]
        exact ⟨_, _, rfl, xFe_si y2 1562 _ (by omega), y3, rfl, y5, xG_c y6 (Nat.le_refl _) rfl rfl rfl, fun k eg => by rw [y7 k eg]⟩
    rcases h with h | h
    · rw [if_pos (show qxk n (qT B n p) = 45 from eqk p 45 hp (by omega) (by omega) (by omega) h), x2, fv_bv_rv]
      exact fin (fun x => -x) (by unfold qun; rw [if_pos h])
    · rw [if_neg (show ¬ qxk n (qT B n p) = 45 from nek p 45 hp (by omega) (by omega) (by omega) (by omega)), if_neg (show ¬ qxk n (qT B n p) = 64 from nek p 64 hp (by omega) (by omega) (by omega) (by omega)), if_pos (show qxk n (qT B n p) = 126 from eqk p 126 hp (by omega) (by omega) (by omega) h), x2, fv_bv_rv]
      exact fin (fun x => x ^^^ -1) (by unfold qun; rw [if_neg (by omega)])
  · -- ( with a fault within
    intro d p s f h hd h2
    refine ⟨Ps_brt d p s f h hd h2.1, fun hd' r0 G σ hs => ?_⟩
    have hp := hs.2.2.1.1
    obtain ⟨σ1, x1, f1, k1⟩ := x_look hS hN hs.1.1 hs.2.2.1
    obtain ⟨σ2, x2, ff, n2, hs2⟩ := x_nst hS hs hd f1 k1 (by omega) (by omega)
    have ih := h2.2 (by omega) r0 G σ2 hs2
    rw [show xfl N (zX3_rU N (45 - (d + 1))) 1 σ2 = zX3_or N (zX3_rU N (44 - d)) σ2 by rw [show 45 - (d + 1) = 44 - d by omega]; rfl] at ih
    rw [x_un7 N d hd']
    unfold zX3_unary
    rw [x1, fv_bi_ri, if_neg (show ¬ qxk n (qT B n p) = 1 from nek p 1 hp (by omega) (by omega) (by omega) (by omega)), if_neg (show ¬ qxk n (qT B n p) = 2 from nek p 2 hp (by omega) (by omega) (by omega) (by omega)), if_pos (show qxk n (qT B n p) = 40 from eqk p 40 hp (by omega) (by omega) (by omega) h), x2, fv_bv_rv]
    refine xOu_t ff n2 ?_
    obtain ⟨σ', y1, y2, y3, y4⟩ := ih
    rw [y1]
    exact ⟨σ', rfl, y2, y3, y4⟩
  · -- ( )
    intro d p s p' h hd h2 h3
    refine ⟨Ps_bra d p s p' h hd h2.1 h3, fun hd' r0 G σ hs => ?_⟩
    have hp := hs.2.2.1.1
    obtain ⟨σ1, x1, f1, k1⟩ := x_look hS hN hs.1.1 hs.2.2.1
    obtain ⟨σ2, x2, ff, n2, hs2⟩ := x_nst hS hs hd f1 k1 (by omega) (by omega)
    have ih := h2.2 (by omega) r0 G σ2 hs2
    rw [show xfl N (zX3_rU N (45 - (d + 1))) 1 σ2 = zX3_or N (zX3_rU N (44 - d)) σ2 by rw [show 45 - (d + 1) = 44 - d by omega]; rfl] at ih
    have dec : Int32.ofNat (d + 1) - 1 = Int32.ofNat d := by rw [show (1 : Int32) = Int32.ofNat 1 from rfl, p_subN _ _ (by omega)]; rfl
    rw [x_un7 N d hd']
    unfold zX3_unary
    rw [x1, fv_bi_ri, if_neg (show ¬ qxk n (qT B n p) = 1 from nek p 1 hp (by omega) (by omega) (by omega) (by omega)), if_neg (show ¬ qxk n (qT B n p) = 2 from nek p 2 hp (by omega) (by omega) (by omega) (by omega)), if_pos (show qxk n (qT B n p) = 40 from eqk p 40 hp (by omega) (by omega) (by omega) h), x2, fv_bv_rv]
    refine xOu_t ff n2 ?_
    obtain ⟨w, σ', y1, y2, y3, y4, y5, y6, y7⟩ := ih
    obtain ⟨σ3, x3, f3, a3⟩ := (x_want hS hN (xI_e hs2.1 y2).1 y5 41 (by omega)).1 h3
    have hb' := qT_b hS p' y5.1
    have t1 := hb'.1
    have t2 := hb'.2.2.2.1 (by omega) (by omega)
    rw [y1, fv_bi_ri, show zX4_want N 41 σ' = _ from x3, fv_bv_rv, (f3.1 1562 (by omega)).trans y4, dec]
    exact ⟨w, _, rfl, xFe_si (xFe_t y2 (xFe_g f3)) 1562 _ (by omega), (qGx_n f3).trans y3, rfl, a3, xG_c y6 (by omega) (f3.1 1560 (by omega)) (f3.1 1563 (by omega)) (f3.1 1564 (by omega)), y7⟩
  · -- ( without )
    intro d p s p' h hd h2 h3
    refine ⟨Ps_brw d p s p' h hd h2.1 h3, fun hd' r0 G σ hs => ?_⟩
    have hp := hs.2.2.1.1
    obtain ⟨σ1, x1, f1, k1⟩ := x_look hS hN hs.1.1 hs.2.2.1
    obtain ⟨σ2, x2, ff, n2, hs2⟩ := x_nst hS hs hd f1 k1 (by omega) (by omega)
    have ih := h2.2 (by omega) r0 G σ2 hs2
    rw [show xfl N (zX3_rU N (45 - (d + 1))) 1 σ2 = zX3_or N (zX3_rU N (44 - d)) σ2 by rw [show 45 - (d + 1) = 44 - d by omega]; rfl] at ih
    rw [x_un7 N d hd']
    unfold zX3_unary
    rw [x1, fv_bi_ri, if_neg (show ¬ qxk n (qT B n p) = 1 from nek p 1 hp (by omega) (by omega) (by omega) (by omega)), if_neg (show ¬ qxk n (qT B n p) = 2 from nek p 2 hp (by omega) (by omega) (by omega) (by omega)), if_pos (show qxk n (qT B n p) = 40 from eqk p 40 hp (by omega) (by omega) (by omega) h), x2, fv_bv_rv]
    refine xOu_t ff n2 ?_
    obtain ⟨w, σ', y1, y2, y3, y4, y5, y6, y7⟩ := ih
    obtain ⟨σ3, x3, f3, a3⟩ := (x_want hS hN (xI_e hs2.1 y2).1 y5 41 (by omega)).2 h3
    have hb' := qT_b hS p' y5.1
    have t1 := hb'.1
    rw [y1, fv_bi_ri, show zX4_want N 41 σ' = _ from x3, fv_bv_th]
    have wr : 1 ≤ qwr (qT B n p') ∧ qwr (qT B n p') ≤ 2 := by unfold qwr; split <;> omega
    refine ⟨_, rfl, ⟨(xFe_t y2 (xFe_g f3)).1, (xFe_t y2 (xFe_g f3)).2.1, (xFe_t y2 (xFe_g f3)).2.2⟩, ?_, ⟨wr.1, wr.2, hb'.2.1⟩, fun k => ⟨xR_c (y6.1 k).2.1 (f3.1 1563 (by omega)) (f3.1 1564 (by omega)), fun g eg => ?_⟩, fun k => xR_c (y6.2 k).2 (f3.1 1563 (by omega)) (f3.1 1564 (by omega))⟩
    · show fv_n σ3 + 1 = _; rw [qGx_n f3, y3]
    · have := (y6.1 k).2.2 g eg; show g.2 < (qT B n p').2.1; omega
  · -- too deep
    intro d p h hd
    refine ⟨Ps_dep d p h hd, fun hd' r0 G σ hs => ?_⟩
    have hp := hs.2.2.1.1
    have hb := qT_b hS p hp
    obtain ⟨σ1, x1, f1, k1⟩ := x_look hS hN hs.1.1 hs.2.2.1
    have en : zX3_nest σ1 = fv_th (Int32.ofNat 2) (Int32.ofNat (qT B n p).2.1) (fv_sc σ1) := by
      unfold zX3_nest
      rw [f1.1 1562 (by omega), hs.2.1, hd, if_neg (show ¬ ¬ Int32.ofNat 40 = 40 from not_not_intro rfl), k1.2.2.1]; rfl
    rw [x_un7 N d hd']
    unfold zX3_unary
    rw [x1, fv_bi_ri, if_neg (show ¬ qxk n (qT B n p) = 1 from nek p 1 hp (by omega) (by omega) (by omega) (by omega)), if_neg (show ¬ qxk n (qT B n p) = 2 from nek p 2 hp (by omega) (by omega) (by omega) (by omega))]
    by_cases c40 : (qT B n p).1 = 40
    · rw [if_pos (show qxk n (qT B n p) = 40 from eqk p 40 hp (by omega) (by omega) (by omega) c40), en, fv_bv_th]
      exact x_thr hs f1 ⟨by omega, by omega⟩ ⟨hb.1, hb.2.1⟩
    rw [if_neg (show ¬ qxk n (qT B n p) = 40 from nek p 40 hp (by omega) (by omega) (by omega) c40)]
    by_cases c45 : (qT B n p).1 = 45
    · rw [if_pos (show qxk n (qT B n p) = 45 from eqk p 45 hp (by omega) (by omega) (by omega) c45), en, fv_bv_th]
      exact x_thr hs f1 ⟨by omega, by omega⟩ ⟨hb.1, hb.2.1⟩
    rw [if_neg (show ¬ qxk n (qT B n p) = 45 from nek p 45 hp (by omega) (by omega) (by omega) c45), if_neg (show ¬ qxk n (qT B n p) = 64 from nek p 64 hp (by omega) (by omega) (by omega) (by omega)), if_pos (show qxk n (qT B n p) = 126 from eqk p 126 hp (by omega) (by omega) (by omega) (by omega)), en, fv_bv_th]
    exact x_thr hs f1 ⟨by omega, by omega⟩ ⟨hb.1, hb.2.1⟩
  · -- none of these
    intro d p h
    refine ⟨Ps_bad d p h, fun hd' r0 G σ hs => ?_⟩
    have hp := hs.2.2.1.1
    have hb := qT_b hS p hp
    obtain ⟨σ1, x1, f1, k1⟩ := x_look hS hN hs.1.1 hs.2.2.1
    have wr : 1 ≤ qwr (qT B n p) ∧ qwr (qT B n p) ≤ 2 := by unfold qwr; split <;> omega
    rw [x_un7 N d hd']
    unfold zX3_unary
    rw [x1, fv_bi_ri, if_neg (show ¬ qxk n (qT B n p) = 1 from nek p 1 hp (by omega) (by omega) (by omega) (by omega)), if_neg (show ¬ qxk n (qT B n p) = 2 from nek p 2 hp (by omega) (by omega) (by omega) (by omega)), if_neg (show ¬ qxk n (qT B n p) = 40 from nek p 40 hp (by omega) (by omega) (by omega) (by omega)), if_neg (show ¬ qxk n (qT B n p) = 45 from nek p 45 hp (by omega) (by omega) (by omega) (by omega)), if_neg (show ¬ qxk n (qT B n p) = 64 from nek p 64 hp (by omega) (by omega) (by omega) (by omega)), if_neg (show ¬ qxk n (qT B n p) = 126 from nek p 126 hp (by omega) (by omega) (by omega) (by omega)), x_wrong hb k1, fv_ba_ra]
    exact x_thr hs f1 wr ⟨hb.1, hb.2.1⟩
  · -- a level, with a fault
    intro l d p s f h1 h6 h
    refine ⟨Ps_lvt l d p s f h1 h6 h.1, fun hd' r0 G σ hs => ?_⟩
    have ih := h.2 hd' r0 G σ hs
    obtain ⟨σ', y1, y2, y3, y4⟩ := ih
    rw [xfl_s N _ l h1 h6, y1]
    exact ⟨σ', rfl, y2, y3, y4⟩
  · -- a level
    intro l d p s p' s' o h1 h6 h h2
    refine ⟨Ps_lv l d p s p' s' o h1 h6 h.1 h2.1, fun hd' r0 G σ hs => ?_⟩
    have ih := h.2 hd' r0 G σ hs
    obtain ⟨w, σ', y1, y2, y3, y4, y5, y6, y7⟩ := ih
    rw [xfl_s N _ l h1 h6, y1, fv_bi_ri]
    exact xOu_t y2 y3 (h2.2 hd' r0 G N w σ' (by omega) ⟨xI_e hs.1 y2, y4, y5, y6⟩ y7)
  · -- a loop's end
    intro s l d p h1 h6 h
    refine ⟨Ps_stop s l d p h1 h6 h, fun hd' r0 G m w σ hm hs hw => ?_⟩
    obtain ⟨m, rfl⟩ : ∃ j, m = j + 1 := ⟨m - 1, by omega⟩
    obtain ⟨σ1, x1, f1, k1⟩ := x_lps hS hN hs.1.1 hs.2.2.1 (zX3_rU N (45 - d)) l m h1 h6 w h
    rw [x1]
    exact ⟨w, σ1, rfl, xFe_g f1, qGx_n f1, (f1.1 1562 (by omega)).trans hs.2.1, xAt_of hs.2.2.1.1 k1, xG_g hs.2.2.2 (Nat.le_refl _) f1, hw⟩
  · -- a loop, with a fault
    intro s l d p s2 f h1 h6 h h2
    refine ⟨Ps_opt s l d p s2 f h1 h6 h h2.1, fun hd' r0 G m w σ hm hs hw => ?_⟩
    obtain ⟨m, rfl⟩ : ∃ j, m = j + 1 := ⟨m - 1, by omega⟩
    have hp := hs.2.2.1.1
    have hb := qT_b hS p hp
    have hk := qlv_k (k := (qT B n p).1) (by omega)
    have t1 := hb.1
    have t2 := hb.2.2.2.1 hk.1 hk.2.1
    obtain ⟨σ1, x1, f1, a1⟩ := x_lpo hS hN hs.1.1 hs.2.2.1 (zX3_rU N (45 - d)) l m h1 w h
    have ff := xFe_g f1
    obtain ⟨σ', y1, y2, y3, y4⟩ := h2.2 hd' r0 (qoe G (s e).1) σ1 ⟨xI_e hs.1 ff, (f1.1 1562 (by omega)).trans hs.2.1, a1, xG_g hs.2.2.2 (by omega) f1⟩
    rw [x1, y1]
    rw [qoe_a] at y4
    exact ⟨σ', rfl, xFe_t ff y2, y3.trans (by rw [qGx_n f1]), y4⟩
  · -- a loop's turn
    intro s l d p s2 p' s' o h1 h6 h h2 h3
    refine ⟨Ps_op s l d p s2 p' s' o h1 h6 h h2.1 h3.1, fun hd' r0 G m w σ hm hs hw => ?_⟩
    obtain ⟨m, rfl⟩ : ∃ j, m = j + 1 := ⟨m - 1, by omega⟩
    have hp := hs.2.2.1.1
    have hb := qT_b hS p hp
    have hk := qlv_k (k := (qT B n p).1) (by omega)
    have t1 := hb.1
    have t2 := hb.2.2.2.1 hk.1 hk.2.1
    have t3 := Ps_lt hS h2.1 hb.2.2.1 p' rfl
    have t4 := t3.2.2 rfl
    obtain ⟨σ1, x1, f1, a1⟩ := x_lpo hS hN hs.1.1 hs.2.2.1 (zX3_rU N (45 - d)) l m h1 w h
    have ff := xFe_g f1
    obtain ⟨r, σ3, y1, y2, y3, y4, y5, y6, y7⟩ := h2.2 hd' r0 (qoe G (s e).1) σ1 ⟨xI_e hs.1 ff, (f1.1 1562 (by omega)).trans hs.2.1, a1, xG_g hs.2.2.2 (by omega) f1⟩
    rw [x1, y1, fv_bi_ri]
    have ff3 := xFe_t ff y2
    have hI3 := xI_e hs.1 ff3
    refine xOu_t ff3 (y3.trans (qGx_n f1)) ?_
    -- the faults so far, and with a division by zero
    have eG : qoe G (qcm (qT B n p).1 (qT B n p).2.1 s s2 e).1 = qoe (qoe (qoe G (s e).1) (s2 e).1) (if (qT B n p).1 = 47 ∧ (s2 e).2 = 0 then some (5, (qT B n p).2.1) else none) := by
      unfold qcm; rw [qoe_a, qoe_a]
    have next : ∀ (w' : Int32) (σ4 : fv_S), xFe σ3 σ4 → fv_n σ4 = fv_n σ3 → fv_gi σ4 1562 = Int32.ofNat d → xAt B n p' σ4 → xG K r0 (qoe G (qcm (qT B n p).1 (qT B n p).2.1 s s2 e).1) p' σ4 → (K → qoe G (qcm (qT B n p).1 (qT B n p).2.1 s s2 e).1 = none → w' = (qcm (qT B n p).1 (qT B n p).2.1 s s2 e).2) → xOu B n K r0 (qoe G (s' e).1) d (s' e).2 o σ3 (xlp N (zX3_rU N (45 - d)) l m w' σ4) := by
      intro w' σ4 g1 g2 g3 g4 g5 g6
      exact xOu_t g1 g2 (h3.2 hd' r0 G m w' σ4 (by omega) ⟨xI_e hI3 g1, g3, g4, g5⟩ g6)
    unfold xdo
    by_cases cz : (qT B n p).1 = 47 ∧ r = 0
    · rw [if_pos cz]
      have el : l = 6 := by rw [← h, cz.1]; rfl
      have e121 : ∀ s4 : fv_S, zX3_term_121 N (zX3_rU N (45 - d)) (zX3_term_5 N (zX3_rU N (45 - d)) m) w 0 r 1 s4 = xlp N (zX3_rU N (45 - d)) l m 0 s4 := by
        intro s4
        unfold zX3_term_121
        rw [if_pos rfl, if_neg (show ¬ (1 : Int32) = 0 by decide), el]; rfl
      have hK := hI3.2.2.2.2
      unfold zX3_term_82
      rw [if_neg (show ¬ (1 : Int32) = 0 by decide)]
      by_cases c0 : fv_gi σ3 1560 = 0
      · rw [if_pos c0, e121]
        refine next 0 σ3 (xFe_r _) rfl y4 y5 ⟨fun k => ?_, fun k => y6.2 k⟩ (fun k eg => ?_)
        · -- a fault was told before
          obtain ⟨u1, u2, u3⟩ := y6.1 k
          rw [eG]
          cases hG : qoe (qoe G (s e).1) (s2 e).1 with
          | none => rw [hG] at u1; rw [if_pos rfl, c0] at u1; exact absurd u1 (by decide)
          | some f => rw [hG] at u1 u2 u3; exact ⟨u1, u2, u3⟩
        · rw [eG] at eg
          have u1 := (y6.1 k).1
          rw [(qoe_no eg).1, if_pos rfl, c0] at u1
          exact absurd u1 (by decide)
      · rw [if_neg c0]
        by_cases k : K
        · obtain ⟨u1, u2, u3⟩ := y6.1 k
          have hG : qoe (qoe G (s e).1) (s2 e).1 = none := by
            cases hG : qoe (qoe G (s e).1) (s2 e).1 with
            | none => rfl
            | some f => rw [hG] at u1; rw [if_neg (by simp)] at u1; exact absurd u1 c0
          have ev := y7 k hG
          have e110 : ∀ x5 : Int32, (if ¬ fv_gi σ3 1541 = 0 then zX3_term_110 N (zX3_rU N (45 - d)) (zX3_term_5 N (zX3_rU N (45 - d)) m) w 0 (Int32.ofNat (qT B n p).2.1) r x5 σ3 else if fv_gi σ3 1542 = 0 then zX3_term_121 N (zX3_rU N (45 - d)) (zX3_term_5 N (zX3_rU N (45 - d)) m) w 0 r x5 σ3 else zX3_term_110 N (zX3_rU N (45 - d)) (zX3_term_5 N (zX3_rU N (45 - d)) m) w 0 (Int32.ofNat (qT B n p).2.1) r x5 σ3) = zX3_term_110 N (zX3_rU N (45 - d)) (zX3_term_5 N (zX3_rU N (45 - d)) m) w 0 (Int32.ofNat (qT B n p).2.1) r x5 σ3 := by
            intro x5
            by_cases c1 : fv_gi σ3 1541 = 0
            · rw [if_neg (not_not_intro c1), if_neg (fun c2 => hK.1 k ⟨c1, c2⟩)]
            · rw [if_pos c1]
          rw [e110]
          unfold zX3_term_110
          rw [hG] at u2
          obtain ⟨σ4, x4, r4, f4, f4'⟩ := x_tell u2 (5, (qT B n p).2.1) (by show 1 ≤ 5; omega) (by show 5 ≤ 9; omega) (by show (qT B n p).2.1 ≤ 6000; have := hb.2.1; omega)
          rw [show zX3_tellFault 5 (Int32.ofNat (qT B n p).2.1) σ3 = _ from x4, fv_bv_rv, e121]
          have e2 : qoe G (qcm (qT B n p).1 (qT B n p).2.1 s s2 e).1 = some (5, (qT B n p).2.1) := by
            rw [eG, hG, if_pos ⟨cz.1, by rw [← ev]; exact cz.2⟩]; rfl
          have t := fun j (h3 : j ≠ 1563) (h4 : j ≠ 1564) => f4 j h3 h4
          have a4 : xAt B n p' (fv_si σ4 1560 0) := by
            refine ⟨y5.1, ?_⟩
            rcases y5.2 with ⟨b1, b2⟩ | b
            · exact Or.inl ⟨(t 1668 (by omega) (by omega)).trans b1, (t 1667 (by omega) (by omega)).trans b2⟩
            · exact Or.inr ⟨(t 1668 (by omega) (by omega)).trans b.1, (t 1669 (by omega) (by omega)).trans b.2.1, (t 1670 (by omega) (by omega)).trans b.2.2.1, fun x y => (t 1671 (by omega) (by omega)).trans (b.2.2.2.1 x y), fun x => (t 1667 (by omega) (by omega)).trans (b.2.2.2.2.1 x), fun x => (t 1672 (by omega) (by omega)).trans (b.2.2.2.2.2 x)⟩
          refine next 0 (fv_si σ4 1560 0) (xFe_si (xFe_tl (xFe_r _) f4 f4') 1560 0 (by omega)) (by show σ4.2.2.2 = _; rw [f4']) ((t 1562 (by omega) (by omega)).trans y4) a4 ⟨fun _ => ⟨?_, ?_, ?_⟩, fun nk => absurd k nk⟩ (fun _ eg => ?_)
          · rw [e2, if_neg (by simp)]; rfl
          · rw [e2]; exact xR_c r4 rfl rfl
          · rw [e2]; intro f ef; have := Option.some.inj ef; rw [← this]; show (qT B n p).2.1 < p'; omega
          · rw [e2] at eg; exact absurd eg (by simp)
        · have cK : fv_gi σ3 1541 = 0 ∧ fv_gi σ3 1542 = 0 := Decidable.byContradiction (fun h => k (hK.2 h))
          rw [if_neg (not_not_intro cK.1), if_pos cK.2, e121]
          exact next 0 σ3 (xFe_r _) rfl y4 y5 ⟨fun k' => absurd k' k, fun k => y6.2 k⟩ (fun k' => absurd k' k)
    · rw [if_neg cz]
      refine next (qap (qT B n p).1 w r) σ3 (xFe_r _) rfl y4 y5 ⟨fun k => ?_, fun k => y6.2 k⟩ (fun k eg => ?_)
      · obtain ⟨u1, u2, u3⟩ := y6.1 k
        rw [eG]
        cases hG : qoe (qoe G (s e).1) (s2 e).1 with
        | none =>
          have ev := y7 k hG
          rw [hG] at u1 u2 u3
          rw [if_neg (show ¬ ((qT B n p).1 = 47 ∧ (s2 e).2 = 0) from fun c => cz ⟨c.1, by rw [ev]; exact c.2⟩)]
          exact ⟨u1, u2, u3⟩
        | some f => rw [hG] at u1 u2 u3; exact ⟨u1, u2, u3⟩
      · rw [eG] at eg
        have hG := (qoe_no eg).1
        rw [y7 k hG, hw k (qoe_no hG).1]; rfl
