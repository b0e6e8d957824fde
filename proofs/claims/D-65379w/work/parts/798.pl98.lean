set_option maxRecDepth 100000
set_option maxHeartbeats 4000000
/-! The plain law: an instruction in the model: its numbers are worked out. -/
theorem Ps_k0 {B : Nat → Nat} {n : Nat} {a : Option qSm} {l d p : Nat} {s : qSm} {o : qOu} (h : Ps B n a l d p s o) : a = none → ∀ p', o = .inr p' → (qT B n p).1 ≠ 0 := by
  refine (h (fun a l d p s o => Ps B n a l d p s o ∧ (a = none → ∀ p', o = .inr p' → (qT B n p).1 ≠ 0)) ⟨?_, ?_, ?_, ?_, ?_, ?_, ?_, ?_, ?_, ?_, ?_, ?_, ?_, ?_, ?_⟩).2
  · intro d p h; exact ⟨Ps_num d p h, fun _ p' e => by omega⟩
  · intro d p h; exact ⟨Ps_org d p h, fun _ p' e => by omega⟩
  · intro d p h h2; exact ⟨Ps_nam d p h h2, fun _ p' e => by omega⟩
  · intro d p h h2; exact ⟨Ps_res d p h h2, fun _ p' e => absurd e (by simp)⟩
  · intro d p s o h hd h2; exact ⟨Ps_una d p s o h hd h2.1, fun _ p' e => by omega⟩
  · intro d p s f h hd h2; exact ⟨Ps_brt d p s f h hd h2.1, fun _ p' e => absurd e (by simp)⟩
  · intro d p s p1 h hd h2 h3; exact ⟨Ps_bra d p s p1 h hd h2.1 h3, fun _ p' e => by omega⟩
  · intro d p s p1 h hd h2 h3; exact ⟨Ps_brw d p s p1 h hd h2.1 h3, fun _ p' e => absurd e (by simp)⟩
  · intro d p h hd; exact ⟨Ps_dep d p h hd, fun _ p' e => absurd e (by simp)⟩
  · intro d p h; exact ⟨Ps_bad d p h, fun _ p' e => absurd e (by simp)⟩
  · intro l d p s f h1 h6 h; exact ⟨Ps_lvt l d p s f h1 h6 h.1, fun _ p' e => absurd e (by simp)⟩
  · intro l d p s p1 s' o h1 h6 h h2; exact ⟨Ps_lv l d p s p1 s' o h1 h6 h.1 h2.1, fun _ p' e => h.2 rfl p1 rfl⟩
  · intro s l d p h1 h6 h; exact ⟨Ps_stop s l d p h1 h6 h, fun e => absurd e (by simp)⟩
  · intro s l d p s2 f h1 h6 h h2; exact ⟨Ps_opt s l d p s2 f h1 h6 h h2.1, fun e => absurd e (by simp)⟩
  · intro s l d p s2 p1 s' o h1 h6 h h2 h3; exact ⟨Ps_op s l d p s2 p1 s' o h1 h6 h h2.1 h3.1, fun e => absurd e (by simp)⟩
theorem qOp_ex {B : Nat → Nat} {n p p' : Nat} (ho : (qOp B n p).2.2.2.2 = .inr p') (hc : 4 ≤ (qOp B n p).1) : ∃ p1, (qEX B n (qOp B n p).2.2.2.1).2 = .inr p1 := by
  have hc2 : ∀ pe, qcl B n (qEX B n pe).2 = .inr p' → ∃ p1, (qEX B n pe).2 = .inr p1 := by
    intro pe h2
    unfold qcl at h2
    cases hq : (qEX B n pe).2 with
    | inl f => rw [hq] at h2; exact absurd h2 (by simp)
    | inr pq => exact ⟨pq, rfl⟩
  revert ho hc
  unfold qOp
  split
  · split
    · split
      · intro _ hc; exact absurd hc (by show ¬ 4 ≤ 3; omega)
      · intro ho _; exact hc2 _ ho
    · split
      · intro _ hc; exact absurd hc (by show ¬ 4 ≤ 2; omega)
      · intro ho _; exact hc2 _ ho
  · split
    · intro _ hc; exact absurd hc (by show ¬ 4 ≤ 1; omega)
    · intro ho _; exact ⟨_, ho⟩
theorem qd_ex {B : Nat → Nat} {n p p' : Nat} (ho : (qOm B n p).2 = .inr p') : (4 ≤ (qd0 B n p).1 → ∃ p1, (qEX B n (qd0 B n p).2.2.2.1).2 = .inr p1) ∧ (4 ≤ (qd1 B n p).1 → ∃ p1, (qEX B n (qd1 B n p).2.2.2.1).2 = .inr p1) := by
  have z4 : ¬ 4 ≤ qdz.1 := show ¬ 4 ≤ (0 : Nat) by omega
  by_cases c0 : (qT B n p).1 = 0
  · have e0 : qd0 B n p = qdz := by unfold qd0; rw [qOm_0 c0]; exact if_neg (show ¬ 1 ≤ (0 : Nat) by omega)
    have e1 : qd1 B n p = qdz := by unfold qd1; rw [qOm_0 c0]; exact if_neg (show ¬ 2 ≤ (0 : Nat) by omega)
    rw [e0, e1]
    exact ⟨fun h => absurd h z4, fun h => absurd h z4⟩
  · cases hq : (qOp B n p).2.2.2.2 with
    | inl f => rw [qOm_i c0 hq] at ho; exact absurd ho (by simp)
    | inr p1 =>
      by_cases c : (qT B n p1).1 = 44
      · have e0 : qd0 B n p = qOp B n p := by unfold qd0; rw [qOm_c c0 hq c]; exact if_pos (show 1 ≤ (2 : Nat) by omega)
        have e1 : qd1 B n p = qOp B n (qT B n p1).2.2.1 := by unfold qd1; rw [qOm_c c0 hq c, qO2_e hq]; exact if_pos (show 2 ≤ (2 : Nat) by omega)
        rw [qOm_c c0 hq c] at ho
        rw [e0, e1]
        exact ⟨fun h => qOp_ex hq h, fun h => qOp_ex ho h⟩
      · have e0 : qd0 B n p = qOp B n p := by unfold qd0; rw [qOm_e c0 hq c]; exact if_pos (show 1 ≤ (1 : Nat) by omega)
        have e1 : qd1 B n p = qdz := by unfold qd1; rw [qOm_e c0 hq c]; exact if_neg (show ¬ 2 ≤ (1 : Nat) by omega)
        rw [e0, e1]
        exact ⟨fun h => qOp_ex hq h, fun h => absurd h z4⟩
def mFk (τ τ' : fv_S) : Prop := (∀ k, (k < 2 ∨ 6 < k) → k ≠ 8 → k ≠ 9 → k ≠ 16 → k ≠ 18 → k ≠ 19 → k ≠ 22 → (k < 55 ∨ 57 < k) → fv_gi τ' k = fv_gi τ k) ∧ (∀ k, k ≠ 7 → fv_gl τ' k = fv_gl τ k) ∧ (∀ a, a ≠ 5 → a ≠ 6 → a ≠ 7 → fv_gw τ' a = fv_gw τ a) ∧ fv_n τ' = fv_n τ
theorem mFk_r (τ : fv_S) : mFk τ τ := ⟨fun _ _ _ _ _ _ _ _ _ => rfl, fun _ _ => rfl, fun _ _ _ _ => rfl, rfl⟩
theorem mFk_t {a b c : fv_S} (h : mFk a b) (g : mFk b c) : mFk a c := ⟨fun k h1 h2 h3 h4 h5 h6 h7 h8 => (g.1 k h1 h2 h3 h4 h5 h6 h7 h8).trans (h.1 k h1 h2 h3 h4 h5 h6 h7 h8), fun k hk => (g.2.1 k hk).trans (h.2.1 k hk), fun k h1 h2 h3 => (g.2.2.1 k h1 h2 h3).trans (h.2.2.1 k h1 h2 h3), g.2.2.2.trans h.2.2.2⟩
theorem mFk_e {a b : fv_S} (h : mFe a b) : mFk a b := ⟨fun k h1 h2 h3 h4 h5 h6 h7 _ => h.1 k h1 h2 h3 h4 h5 h6 h7, h.2.1, h.2.2.1, h.2.2.2⟩
theorem mFk_si {a b : fv_S} (h : mFk a b) (k : Nat) (v : Int32) (hk : 55 ≤ k ∧ k ≤ 57) : mFk a (fv_si b k v) := ⟨fun j h1 h2 h3 h4 h5 h6 h7 h8 => (if_neg (show j ≠ k by omega)).trans (h.1 j h1 h2 h3 h4 h5 h6 h7 h8), h.2.1, h.2.2.1, h.2.2.2⟩
theorem mFo_k {a b : fv_S} (h : mFk a b) : mFo a b := ⟨fun k hk => h.1 k (by omega) (by omega) (by omega) (by omega) (by omega) (by omega) (by omega) (by omega), h.2.1, fun k hk => h.2.2.1 k (by omega) (by omega) (by omega), h.2.2.2⟩
theorem mMs_k {a b : fv_S} (h : mFk a b) : mMs a b := ⟨h.2.2.1 14 (by omega) (by omega) (by omega), h.1 39 (by omega) (by omega) (by omega) (by omega) (by omega) (by omega) (by omega) (by omega), h.1 40 (by omega) (by omega) (by omega) (by omega) (by omega) (by omega) (by omega) (by omega)⟩
theorem mZ_s {B : Nat → Nat} {n : Nat} {sec : Bool} {L : List (List Nat × Int32)} {h : Nat} {I : List (Bool × Bool)} {org : Nat} {τ : fv_S} (z : mZ B n sec L h I org τ) (k : Nat) (v : Int32) (hk : 55 ≤ k ∧ k ≤ 57) : mZ B n sec L h I org (fv_si τ k v) := by
  obtain ⟨z1, z2, z3, z4, z5, z6, z7, z8⟩ := z
  have g : ∀ j, j ≠ k → fv_gi (fv_si τ k v) j = fv_gi τ j := fun j hj => if_neg hj
  exact ⟨⟨(g 1 (by omega)).trans z1.1, z1.2⟩, ⟨(g 13 (by omega)).trans z2.1, z2.2⟩, (g _ (by omega)).trans z3, (g _ (by omega)).trans z4, (g _ (by omega)).trans z5, (g _ (by omega)).trans z6, (g _ (by omega)).trans z7, mIf_c I τ _ (fun _ _ => ⟨rfl, rfl⟩) z8⟩
/-- the value of an operand's number -/
theorem m_exv {B : Nat → Nat} {n N : Nat} (hS : qS B n) (hN : 7000 ≤ N) {sec : Bool} {L : List (List Nat × Int32)} {h : Nat} {I : List (Bool × Bool)} {org : Nat} {τ : fv_S} (z : mZ B n sec L h I org τ) {o pe p1 : Nat} (ho : o < 2) (h10 : fv_gw τ 10 o = Int32.ofNat (qT B n pe).2.1) (hpe : pe ≤ n) (hx : (qEX B n pe).2 = .inr p1) :
    (∀ f, ((qEX B n pe).1 (qen L org)).1 = some f → ∃ r τ', zX8_expValue N (Int32.ofNat o) τ = fv_ri r τ' ∧ fv_gi τ' 8 = Int32.ofNat f.1 ∧ fv_gi τ' 9 = Int32.ofNat f.2 ∧ (1 ≤ f.1 ∧ f.1 ≤ 9) ∧ mFo τ τ') ∧ (((qEX B n pe).1 (qen L org)).1 = none → ∃ τ', zX8_expValue N (Int32.ofNat o) τ = fv_ri ((qEX B n pe).1 (qen L org)).2 τ' ∧ mFe τ τ' ∧ mZ B n sec L h I org τ') := by
  have hb := qT_b hS pe hpe
  obtain ⟨i1, i2⟩ := p_inN o 8 (by omega) (by omega)
  have g10 : fv_ga τ 10 (Int32.ofNat o) = Int32.ofNat (qT B n pe).2.1 := by show fv_gw τ 10 (Int32.ofNat o).toNatClampNeg = _; rw [i2]; exact h10
  obtain ⟨τ1, x1, f1, k1⟩ := m_goTo (N := N) hS hN (p := (qT B n pe).2.1) (by have := hb.2.1; omega) z.1
  rw [(qT_pl hS (Ps_k0 (qEX_s hS hpe) rfl p1 hx)).1] at k1
  have z1 := mZ_q z f1
  obtain ⟨A, C, D⟩ := m_kx (N := N) hS hN z1 hpe k1
  unfold zX8_expValue
  rw [if_pos i1, g10, x1, fv_bv_rv]
  refine ⟨fun f hf => ?_, fun hg => ?_⟩
  · obtain ⟨τ2, y1, y2, y3, y4, y5⟩ := A f hf
    rw [y1, fv_bi_ri]
    exact ⟨_, τ2, rfl, y2, y3, y4, mFo_t (mFo_q f1) y5⟩
  · obtain ⟨τ2, y1, y2, y3, y4, y5, y6⟩ := D hg p1 hx
    rw [y1, fv_bi_ri, y6]
    exact ⟨τ2, rfl, mFe_t (mFe_q f1) y2, y4⟩
/-- what is kept of an operand's number -/
def mWk (B : Nat → Nat) (n : Nat) (sec : Bool) (L : List (List Nat × Int32)) (h : Nat) (I : List (Bool × Bool)) (org : Nat) (c bk : Nat) (part : Bool) (v rel : Int32) (τ τ' : fv_S) : Prop := mFk τ τ' ∧ mZ B n sec L h I org τ' ∧ fv_gi τ' 55 = (if part = true then v else fv_gi τ 55) ∧ fv_gi τ' 56 = (if c = 3 ∨ c = 4 then v else fv_gi τ 56) ∧ fv_gi τ' 57 = (if bk = 0 then fv_gi τ 57 else if bk = 3 then rel else v)
theorem m_w5 {τ0 τ : fv_S} (f : mFk τ0 τ) (h8 : fv_gi τ 8 = 0) (pl : Nat) : mFx (5, pl) τ0 (fv_bi (zX8_wrong 5 (Int32.ofNat pl) τ) (fun r s => if r = 0 then fv_ri 0 s else fv_ri 1 s) fv_no) := by
  rw [m_wrong h8, fv_bi_ri, if_pos rfl]
  exact ⟨_, rfl, rfl, rfl, ⟨by show 1 ≤ 5; omega, by show 5 ≤ 9; omega⟩, mFo_si (mFo_si (mFo_k f) 8 _ (by omega)) 9 _ (by omega)⟩
theorem i_sh (a : Int32) : (a <<< (16 : Int32)) >>> (16 : Int32) = (Int32.toInt16 a).toInt32 := by
  have h1 : (a <<< (16 : Int32)).toBitVec = a.toBitVec <<< (16 : Nat) := rfl
  apply p_ext; intro i hi
  rw [show (16 : Int32) = Int32.ofNat 16 from rfl, p_tb _ 16 (by omega), BitVec.getLsbD_sshiftRight, show (a <<< Int32.ofNat 16).toBitVec = a.toBitVec <<< (16 : Nat) from h1, Int16.toBitVec_toInt32, Int32.toBitVec_toInt16, BitVec.getLsbD_signExtend, BitVec.msb_eq_getLsbD_last, BitVec.msb_eq_getLsbD_last, BitVec.getLsbD_shiftLeft, BitVec.getLsbD_shiftLeft, BitVec.getLsbD_signExtend, BitVec.getLsbD_signExtend]
  by_cases c : i < 16
  · simp [c, hi, show ¬ 32 ≤ i by omega, show 16 + i < 32 by omega, show ¬ 16 + i < 16 by omega]
  · simp [c, hi, show ¬ 32 ≤ i by omega, show ¬ 16 + i < 32 by omega]
theorem qoc_16 (a : Int32) : qoc ((Int32.toInt16 a).toInt32) = qoc a := by
  unfold qoc
  congr 1
  apply p_ext; intro i hi
  rw [Int32.toBitVec_and, Int32.toBitVec_and, BitVec.getLsbD_and, BitVec.getLsbD_and, p_m8, Int16.toBitVec_toInt32, Int32.toBitVec_toInt16, BitVec.getLsbD_signExtend, BitVec.getLsbD_signExtend]
  by_cases c : i < 8
  · simp [show i < 16 by omega, hi]
  · simp [c]
/-- a number between two -/
theorem i_in {α : Type} (v a b : Int32) (A C : α) : (if v < a then A else if v ≤ b then C else A) = if qin v a b = true then C else A := by
  unfold qin
  by_cases c1 : v < a
  · rw [if_pos c1, if_neg (fun e => by have := (of_decide_eq_true e).1; rw [Int32.le_iff_toInt_le] at this; rw [Int32.lt_iff_toInt_lt] at c1; omega)]
  · have c1' : a ≤ v := by rw [Int32.le_iff_toInt_le]; rw [Int32.lt_iff_toInt_lt] at c1; omega
    rw [if_neg c1]
    by_cases c2 : v ≤ b
    · rw [if_pos c2, if_pos (decide_eq_true ⟨c1', c2⟩)]
    · rw [if_neg c2, if_neg (fun e => c2 (of_decide_eq_true e).2)]
theorem i_in2 {α : Type} (v b : Int32) (A C : α) : (if v < 0 then A else if b < v then A else C) = if qin v 0 b = true then C else A := by
  rw [← i_in]
  by_cases c1 : v < 0
  · rw [if_pos c1, if_pos c1]
  · rw [if_neg c1, if_neg c1]
    by_cases c2 : v ≤ b
    · rw [if_neg (fun e => by rw [Int32.lt_iff_toInt_lt] at e; rw [Int32.le_iff_toInt_le] at c2; omega), if_pos c2]
    · rw [if_pos (by rw [Int32.le_iff_toInt_le] at c2; rw [Int32.lt_iff_toInt_lt]; omega), if_neg c2]
theorem i_8 {v : Int32} (h : qin v 0 56 = true) : v - v / 8 * 8 = 0 ↔ v &&& 7 = 0 := by
  have hq := of_decide_eq_true h
  have e := n_of hq.1
  have l : v.toNatClampNeg ≤ 56 := by
    have h0 : 0 ≤ v.toInt := Int32.le_iff_toInt_le.1 hq.1
    have h2 : v.toInt ≤ 56 := Int32.le_iff_toInt_le.1 hq.2
    show v.toInt.toNat ≤ 56
    omega
  have : ∀ k, k ≤ 56 → (Int32.ofNat k - Int32.ofNat k / 8 * 8 = 0 ↔ Int32.ofNat k &&& 7 = 0) := by decide +kernel
  rw [← e]; exact this _ l
/-- an operand is worked out -/
theorem m_work {B : Nat → Nat} {n N : Nat} (hS : qS B n) (hN : 7000 ≤ N) {sec : Bool} {L : List (List Nat × Int32)} {h : Nat} {I : List (Bool × Bool)} {org : Nat} {τ : fv_S} (z : mZ B n sec L h I org τ) {o c j pe len pk k : Nat} {neg part : Bool} (ho : o < 2) (O : mOd B n o c j neg pe τ) (hD : (c, j) ∈ e_D) (hpe : 4 ≤ c → pe ≤ n ∧ ∃ p1, (qEX B n pe).2 = .inr p1)
    (hpart : part = decide (pk ≠ 0 ∧ o = 0)) (hpk : pk < 4) (s34 : fv_gi τ 34 = Int32.ofNat pk) (s35 : pk ≠ 0 → fv_gi τ 35 = 0) (s32 : e_bk k ≠ 0 → fv_gi τ 32 = Int32.ofNat (e_bk k))
    (eA : part = true → c = 6 ∧ e_bk k = 0) (eB : c = 4 → k = 10) (eC : k = 10 → c = 3 ∨ c = 4) (eX : e_bk k ≠ 0 → c = 5 ∨ c = 6) (eY : c = 5 ∨ c = 6 → part = false → e_bk k ≠ 0)
    {ev : Option (Nat × Nat)} {v nx : Int32} (hev : ev = if 4 ≤ c then ((qEX B n pe).1 (qen L org)).1 else none) (hv : v = if 4 ≤ c then (if neg = true then - ((qEX B n pe).1 (qen L org)).2 else ((qEX B n pe).1 (qen L org)).2) else 0) (hneg : neg = true → c = 4) (hnx : nx = Int32.ofNat (h + len)) :
    (∀ F, qEr ev (qT B n pe).2.1 c ((!part || qRp pk v) && qRk k v nx) = some F → mFx F τ (zX8_work N (Int32.ofNat o) (Int32.ofNat len) τ)) ∧ (qEr ev (qT B n pe).2.1 c ((!part || qRp pk v) && qRk k v nx) = none → ∃ τ', zX8_work N (Int32.ofNat o) (Int32.ofNat len) τ = fv_ri 1 τ' ∧ mWk B n sec L h I org c (e_bk k) part v ((Int32.toInt16 (v - nx)).toInt32) τ τ') := by
  obtain ⟨o8, o9, o12, o11, o10⟩ := O
  obtain ⟨i1, i2⟩ := p_inN o 8 (by omega) (by omega)
  have ga : ∀ (s : fv_S) (a : Nat), fv_ga s a (Int32.ofNat o) = fv_gw s a o := fun s a => by show fv_gw s a (Int32.ofNat o).toNatClampNeg = _; rw [i2]
  have kd : ∀ d ∈ e_D, qmk2 d.1 d.2 ≤ 16 ∧ (qmk2 d.1 d.2 = 14 ↔ d.1 = 3 ∨ d.1 = 4) ∧ (qmk2 d.1 d.2 = 15 ↔ d.1 = 5) ∧ (qmk2 d.1 d.2 = 16 ↔ d.1 = 6) ∧ 1 ≤ d.1 ∧ d.1 ≤ 6 := by decide +kernel
  obtain ⟨k16, k14, k15, k166, kc, kc6⟩ := kd _ hD
  have k16 : qmk2 c j ≤ 16 := k16
  have kc : 1 ≤ c := kc
  have kc6 : c ≤ 6 := kc6
  have q14 : ∀ s : fv_S, fv_gw s 8 o = fv_gw τ 8 o → (fv_ga s 8 (Int32.ofNat o) = 14 ↔ c = 3 ∨ c = 4) := fun s hs => by rw [ga, hs, o8]; exact (p_eqN _ 14 (by omega) (by omega)).trans k14
  have q15 : fv_ga τ 8 (Int32.ofNat o) = 15 ↔ c = 5 := by rw [ga, o8]; exact (p_eqN _ 15 (by omega) (by omega)).trans k15
  have q16 : fv_ga τ 8 (Int32.ofNat o) = 16 ↔ c = 6 := by rw [ga, o8]; exact (p_eqN _ 16 (by omega) (by omega)).trans k166
  have pf : c ≠ 6 → part = false := fun hc => by
    cases hp : part with
    | false => rfl
    | true => exact absurd (eA hp).1 hc
  have bk0 : c ≠ 5 → c ≠ 6 → e_bk k = 0 := fun h5 h6 => by
    by_cases q : e_bk k = 0
    · exact q
    · exact absurd (eX q) (by omega)
  unfold zX8_work
  rw [if_pos i1]
  by_cases c3 : c = 3
  · -- a name of an index without a number
    rw [if_neg (show ¬ ¬ _ from not_not_intro ((q14 τ rfl).2 (Or.inl c3))), if_pos i1, ga, o12, decide_eq_true c3, if_neg (show ¬ q01 true = 0 by decide)]
    have hn : ∀ ok, qEr ev (qT B n pe).2.1 c ok = none := fun ok => if_neg (by omega)
    refine ⟨fun F hF => by rw [hn] at hF; exact absurd hF (by simp), fun _ => ⟨_, rfl, mFk_si (mFk_r τ) 56 0 (by omega), mZ_s z 56 0 (by omega), ?_, ?_, ?_⟩⟩
    · rw [pf (by omega)]; rfl
    · rw [if_pos (Or.inl c3), hv, if_neg (by omega)]; rfl
    · rw [bk0 (by omega) (by omega)]; rfl
  by_cases c12 : c ≤ 2
  · have w27 : zX8_work_27 N (Int32.ofNat o) (Int32.ofNat len) τ = fv_ri 1 τ := by
      unfold zX8_work_27
      rw [if_pos i1, if_neg (fun e => absurd (q16.1 e) (by omega)), if_pos i1, if_neg (fun e => absurd (q15.1 e) (by omega)), if_pos i1, if_neg (fun e => absurd ((q14 τ rfl).1 e) (by omega))]
    rw [if_pos (show ¬ _ from fun e => absurd ((q14 τ rfl).1 e) (by omega)), w27]
    have hn : ∀ ok, qEr ev (qT B n pe).2.1 c ok = none := fun ok => if_neg (by omega)
    refine ⟨fun F hF => by rw [hn] at hF; exact absurd hF (by simp), fun _ => ⟨τ, rfl, mFk_r τ, z, ?_, ?_, ?_⟩⟩
    · rw [pf (by omega)]; rfl
    · rw [if_neg (by omega)]
    · rw [bk0 (by omega) (by omega)]; rfl
  -- a number
  have c4 : 4 ≤ c := by omega
  obtain ⟨hpn, p1, hx⟩ := hpe c4
  rw [if_pos c4] at hev hv
  have w62 : (if ¬ fv_ga τ 8 (Int32.ofNat o) = 14 then zX8_work_27 N (Int32.ofNat o) (Int32.ofNat len) τ else if fv_in (Int32.ofNat o) 8 then (if fv_ga τ 12 (Int32.ofNat o) = 0 then zX8_work_27 N (Int32.ofNat o) (Int32.ofNat len) τ else fv_ri 1 (fv_si τ 56 0)) else none) = zX8_work_62 N (Int32.ofNat o) (Int32.ofNat len) τ := by
    have w27 : zX8_work_27 N (Int32.ofNat o) (Int32.ofNat len) τ = zX8_work_62 N (Int32.ofNat o) (Int32.ofNat len) τ := by
      unfold zX8_work_27
      rw [if_pos i1, if_pos i1, if_pos i1]
      by_cases c6 : c = 6
      · rw [if_pos (q16.2 c6)]
      · rw [if_neg (fun e => c6 (q16.1 e))]
        by_cases c5 : c = 5
        · rw [if_pos (q15.2 c5)]
        · rw [if_neg (fun e => c5 (q15.1 e)), if_pos ((q14 τ rfl).2 (by omega))]
    rw [w27]
    by_cases e14 : c = 4
    · rw [if_neg (show ¬ ¬ _ from not_not_intro ((q14 τ rfl).2 (Or.inr e14))), if_pos i1, ga, o12, decide_eq_false c3, if_pos (show q01 false = 0 by decide)]
    · rw [if_pos (show ¬ _ from fun e => absurd ((q14 τ rfl).1 e) (by omega))]
  rw [w62]
  obtain ⟨A, C⟩ := m_exv (N := N) hS hN z ho (o10 c4) hpn hx
  rw [← hev] at A C
  unfold zX8_work_62
  have er : ∀ ok, qEr ev (qT B n pe).2.1 c ok = qoe ev (if ok = true then none else some (5, (qT B n pe).2.1)) := fun ok => if_pos c4
  cases hve : ev with
  | some f =>
    obtain ⟨r, τ1, x1, x2, x3, x4, x5⟩ := A f hve
    rw [x1, fv_bi_ri, x2, if_neg (show ¬ Int32.ofNat f.1 ≤ 0 from fun e => by have := (p_leN f.1 0 (by omega) (by omega)).1 e; omega)]
    rw [← hve, er, hve]
    refine ⟨fun F hF => ?_, fun hF => absurd (show some f = none from hF) (by simp)⟩
    have := Option.some.inj (show some f = some F from hF)
    subst this
    exact ⟨τ1, rfl, x2, x3, x4, x5⟩
  | none =>
    obtain ⟨τ1, x1, x2, z1⟩ := C hve
    have h8 := z1.2.2.2.2.2.1
    have fk := mFk_e x2
    have gw : ∀ a, 8 ≤ a → fv_gw τ1 a = fv_gw τ a := fun a ha => x2.2.2.1 a (by omega) (by omega) (by omega)
    have gi : ∀ i, 25 ≤ i → fv_gi τ1 i = fv_gi τ i := fun i hi => x2.1 i (by omega) (by omega) (by omega) (by omega) (by omega) (by omega) (by omega)
    have s10 : fv_ga τ1 10 (Int32.ofNat o) = Int32.ofNat (qT B n pe).2.1 := by rw [ga, gw 10 (by omega)]; exact o10 c4
    rw [x1, fv_bi_ri, h8, if_pos (show (0 : Int32) ≤ 0 by decide), if_pos i1, if_pos i1, s10]
    rw [← hve, er, hve]
    generalize (qT B n pe).2.1 = pl
    -- how it ends, by a check
    have fin : ∀ (ok : Bool) (s : fv_S) (out : Option fv_O), mWk B n sec L h I org c (e_bk k) part v ((Int32.toInt16 (v - nx)).toInt32) τ s → (ok = true → out = fv_ri 1 s) → (ok = false → out = fv_bi (zX8_wrong 5 (Int32.ofNat pl) s) (fun r s => if r = 0 then fv_ri 0 s else fv_ri 1 s) fv_no) →
        (∀ F, qoe (none : Option (Nat × Nat)) (if ok = true then none else some (5, pl)) = some F → mFx F τ out) ∧ (qoe (none : Option (Nat × Nat)) (if ok = true then none else some (5, pl)) = none → ∃ τ', out = fv_ri 1 τ' ∧ mWk B n sec L h I org c (e_bk k) part v ((Int32.toInt16 (v - nx)).toInt32) τ τ') := by
      intro ok s out hk h1 h2
      cases ok with
      | true =>
        refine ⟨fun F hF => absurd (show (none : Option (Nat × Nat)) = some F from hF) (by simp), fun _ => ⟨s, h1 rfl, hk⟩⟩
      | false =>
        refine ⟨fun F hF => ?_, fun hF => absurd (show some (5, pl) = none from hF) (by simp)⟩
        have := Option.some.inj (show some (5, pl) = some F from hF)
        subst this
        rw [h2 rfl]
        exact m_w5 hk.1 hk.2.1.2.2.2.2.2.1 pl
    by_cases e4 : c = 4
    · -- with an index
      have ev2 : v = if fv_ga τ1 11 (Int32.ofNat o) = 0 then ((qEX B n pe).1 (qen L org)).2 else - ((qEX B n pe).1 (qen L org)).2 := by
        rw [ga, gw 11 (by omega), o11, decide_eq_true e4, hv]
        cases neg with
        | true => rfl
        | false => rfl
      have e112 : (if fv_ga τ1 11 (Int32.ofNat o) = 0 then zX8_work_112 N (Int32.ofNat pl) ((qEX B n pe).1 (qen L org)).2 τ1 else zX8_work_112 N (Int32.ofNat pl) (- ((qEX B n pe).1 (qen L org)).2) τ1) = zX8_work_112 N (Int32.ofNat pl) v τ1 := by
        rw [ev2]
        split <;> rfl
      rw [if_neg (show ¬ ¬ _ from not_not_intro ((q14 τ1 (by rw [gw 8 (by omega)])).2 (Or.inr e4))), if_pos i1, e112]
      unfold zX8_work_112 zX8_work_133
      rw [i_in]
      have k10 := eB e4
      have pn := pf (by omega)
      have ok : ((!part || qRp pk v) && qRk k v nx) = qin v (-128) 127 := by rw [pn, k10]; rfl
      rw [ok]
      have b0 := bk0 (by omega) (by omega)
      refine fin _ (fv_si τ1 56 v) _ ⟨mFk_si fk 56 v (by omega), mZ_s z1 56 v (by omega), ?_, ?_, ?_⟩ (fun hq => if_pos hq) (fun hq => if_neg (by rw [hq]; decide))
      · rw [pn]; exact gi 55 (by omega)
      · rw [if_pos (Or.inr e4)]; rfl
      · rw [b0]; exact gi 57 (by omega)
    · have c56 : c = 5 ∨ c = 6 := by omega
      have vv : v = ((qEX B n pe).1 (qen L org)).2 := by
        rw [hv]
        cases hng : neg with
        | true => exact absurd (hneg hng) e4
        | false => rfl
      rw [if_pos (show ¬ _ from fun e => absurd ((q14 τ1 (by rw [gw 8 (by omega)])).1 e) (by omega)), ← vv, gi 34 (by omega), s34]
      -- a number of its own octets
      have w265 : part = false → (∀ F, qoe (none : Option (Nat × Nat)) (if ((!part || qRp pk v) && qRk k v nx) = true then none else some (5, pl)) = some F → mFx F τ (zX8_work_265 N (Int32.ofNat len) v (Int32.ofNat pl) τ1)) ∧ (qoe (none : Option (Nat × Nat)) (if ((!part || qRp pk v) && qRk k v nx) = true then none else some (5, pl)) = none → ∃ τ', zX8_work_265 N (Int32.ofNat len) v (Int32.ofNat pl) τ1 = fv_ri 1 τ' ∧ mWk B n sec L h I org c (e_bk k) part v ((Int32.toInt16 (v - nx)).toInt32) τ τ') := by
        intro pn
        have bk := eY c56 pn
        have g32 : fv_gi τ1 32 = Int32.ofNat (e_bk k) := (gi 32 (by omega)).trans (s32 bk)
        obtain ⟨t1, t2, t3, t4⟩ := e_bke k
        have b3 : e_bk k = 1 ∨ e_bk k = 2 ∨ e_bk k = 3 := by
          have : ∀ b, b ≤ 3 → b ≠ 0 → b = 1 ∨ b = 2 ∨ b = 3 := by omega
          exact this _ (by unfold e_bk; cases (Nat.beq k 4 || Nat.beq k 8) <;> cases (Nat.beq k 5 || Nat.beq k 7) <;> cases Nat.beq k 6 <;> decide) bk
        have ok : ((!part || qRp pk v) && qRk k v nx) = qRk k v nx := by rw [pn]; rfl
        have keep : ∀ (s : fv_S) (x : Int32), s = fv_si τ1 57 x ∨ (∃ y, s = fv_si (fv_si τ1 57 y) 57 x) → x = (if e_bk k = 3 then ((Int32.toInt16 (v - nx)).toInt32) else v) → mWk B n sec L h I org c (e_bk k) part v ((Int32.toInt16 (v - nx)).toInt32) τ s := by
          intro s x hs hx
          rcases hs with rfl | ⟨y, rfl⟩
          · refine ⟨mFk_si fk 57 x (by omega), mZ_s z1 57 x (by omega), ?_, ?_, ?_⟩
            · rw [pn]; exact gi 55 (by omega)
            · rw [if_neg (by omega)]; exact gi 56 (by omega)
            · rw [if_neg bk, ← hx]; rfl
          · refine ⟨mFk_si (mFk_si fk 57 y (by omega)) 57 x (by omega), mZ_s (mZ_s z1 57 y (by omega)) 57 x (by omega), ?_, ?_, ?_⟩
            · rw [pn]; exact gi 55 (by omega)
            · rw [if_neg (by omega)]; exact gi 56 (by omega)
            · rw [if_neg bk, ← hx]; rfl
        rw [ok]
        unfold zX8_work_265 zX8_work_291 zX8_work_328 zX8_work_380
        rw [g32]
        rcases b3 with b | b | b
        · have kk := t1.1 b
          rw [if_neg (show ¬ ¬ Int32.ofNat (e_bk k) = 1 by rw [b]; decide), i_in]
          have oq : qRk k v nx = qin v (-128) 255 := by unfold qRk; rw [if_pos kk]
          rw [oq]
          exact fin _ (fv_si τ1 57 v) _ (keep _ v (Or.inl rfl) (by rw [if_neg (by omega)])) (fun hq => if_pos hq) (fun hq => if_neg (by rw [hq]; decide))
        · have kk := t2.1 b
          rw [if_pos (show ¬ Int32.ofNat (e_bk k) = 1 by rw [b]; decide), if_neg (show ¬ ¬ Int32.ofNat (e_bk k) = 2 by rw [b]; decide), i_in]
          have oq : qRk k v nx = qin v (-32768) 65535 := by unfold qRk; rw [if_neg (by omega), if_pos kk]
          rw [oq]
          exact fin _ (fv_si τ1 57 v) _ (keep _ v (Or.inl rfl) (by rw [if_neg (by omega)])) (fun hq => if_pos hq) (fun hq => if_neg (by rw [hq]; decide))
        · have kk := t3.1 b
          have ex : ((v - (fv_gi τ1 20 + Int32.ofNat len)) <<< (16 : Int32)) >>> (16 : Int32) = (Int32.toInt16 (v - nx)).toInt32 := by
            rw [i_sh, z1.2.2.2.1, ← Int32.ofNat_add, hnx]
          rw [if_pos (show ¬ Int32.ofNat (e_bk k) = 1 by rw [b]; decide), if_pos (show ¬ Int32.ofNat (e_bk k) = 2 by rw [b]; decide), ex, i_in]
          have oq : qRk k v nx = qin ((Int32.toInt16 (v - nx)).toInt32) (-128) 127 := by unfold qRk; rw [if_neg (by omega), if_neg (by omega), if_pos kk]
          rw [oq]
          exact fin _ (fv_si (fv_si τ1 57 v) 57 ((Int32.toInt16 (v - nx)).toInt32)) _ (keep _ _ (Or.inr ⟨v, rfl⟩) (by rw [if_pos b])) (fun hq => if_pos hq) (fun hq => if_neg (by rw [hq]; decide))
      by_cases p0 : pk = 0
      · have pn : part = false := by rw [hpart]; exact decide_eq_false (fun e => e.1 p0)
        rw [if_pos (show Int32.ofNat pk ≤ 0 by rw [p0]; decide)]
        exact w265 pn
      · rw [if_neg (show ¬ Int32.ofNat pk ≤ 0 from fun e => by have := (p_leN pk 0 (by omega) (by omega)).1 e; omega), gi 35 (by omega), s35 p0]
        by_cases o0 : o = 0
        · subst o0
          have pt : part = true := by rw [hpart]; exact decide_eq_true ⟨p0, rfl⟩
          obtain ⟨c6, b0⟩ := eA pt
          have rk : qRk k v nx = true := by
            have := (e_bke k).2.2.2.1 b0
            have k10 : k ≠ 10 := fun e => by have := eC e; omega
            unfold qRk; rw [if_neg (by omega), if_neg (by omega), if_neg (by omega), if_neg k10]
          have ok : ((!part || qRp pk v) && qRk k v nx) = qRp pk v := by rw [pt, rk]; cases qRp pk v <;> rfl
          have W : mWk B n sec L h I org c (e_bk k) part v ((Int32.toInt16 (v - nx)).toInt32) τ (fv_si τ1 55 v) := by
            refine ⟨mFk_si fk 55 v (by omega), mZ_s z1 55 v (by omega), ?_, ?_, ?_⟩
            · rw [pt]; rfl
            · rw [if_neg (by omega)]; exact gi 56 (by omega)
            · rw [b0]; exact gi 57 (by omega)
          have w0 : ∀ s, zX8_work_242 N (Int32.ofNat pl) 0 s = fv_bi (zX8_wrong 5 (Int32.ofNat pl) s) (fun r s => if r = 0 then fv_ri 0 s else fv_ri 1 s) fv_no := fun s => by
            unfold zX8_work_242; rw [if_neg (show ¬ ¬ (0 : Int32) = 0 from not_not_intro rfl)]
          have w1 : ∀ s, zX8_work_242 N (Int32.ofNat pl) 1 s = fv_ri 1 s := fun s => by
            unfold zX8_work_242; rw [if_pos (show ¬ (1 : Int32) = 0 by decide)]
          rw [ok, if_neg (show ¬ ¬ (0 : Int32) = Int32.ofNat 0 from not_not_intro rfl)]
          unfold zX8_work_241 zX8_work_224 zX8_work_191
          rw [w0, w1]
          have p3 : pk = 1 ∨ pk = 2 ∨ pk = 3 := by omega
          rcases p3 with rfl | rfl | rfl
          · rw [if_neg (show ¬ ¬ Int32.ofNat 1 = 1 by decide), i_in2]
            have oq : qRp 1 v = qin v 0 7 := rfl
            rw [oq]
            exact fin _ _ _ W (fun hq => if_pos hq) (fun hq => if_neg (by rw [hq]; decide))
          · rw [if_pos (show ¬ Int32.ofNat 2 = 1 by decide), if_neg (show ¬ ¬ Int32.ofNat 2 = 2 by decide), i_in2]
            have oq : qRp 2 v = (if ¬ v &&& 7 = 0 then false else qin v 0 56) := rfl
            cases hq : qin v 0 56 with
            | true =>
              rw [if_pos rfl]
              by_cases c7 : v &&& 7 = 0
              · rw [if_neg (show ¬ ¬ _ from not_not_intro ((i_8 hq).2 c7))]
                rw [oq, if_neg (not_not_intro c7), hq]
                exact fin true _ _ W (fun _ => rfl) (fun hq => absurd hq (by decide))
              · rw [if_pos (show ¬ _ from fun e => c7 ((i_8 hq).1 e))]
                rw [oq, if_pos c7]
                exact fin false _ _ W (fun hq => absurd hq (by decide)) (fun _ => rfl)
            | false =>
              rw [if_neg (show ¬ false = true by decide)]
              have : qRp 2 v = false := by rw [oq, hq]; split <;> rfl
              rw [this]
              exact fin false _ _ W (fun hq => absurd hq (by decide)) (fun _ => rfl)
          · rw [if_pos (show ¬ Int32.ofNat 3 = 1 by decide), if_pos (show ¬ Int32.ofNat 3 = 2 by decide), i_in2]
            have oq : qRp 3 v = qin v 0 2 := rfl
            rw [oq]
            exact fin _ _ _ W (fun hq => if_pos hq) (fun hq => if_neg (by rw [hq]; decide))
        · have o1 : o = 1 := by omega
          subst o1
          have pn : part = false := by rw [hpart]; exact decide_eq_false (fun e => o0 e.2)
          rw [if_pos (show ¬ (0 : Int32) = Int32.ofNat 1 by decide)]
          exact w265 pn
