set_option maxRecDepth 100000
set_option maxHeartbeats 4000000
/-! The plain law: wide sums, ports, blocks, what stands behind 203 and 237. -/
theorem p_sx (x y : Int32) (k : Nat) (hk : k < 32) : (x ^^^ y) >>> Int32.ofNat k = (x >>> Int32.ofNat k) ^^^ (y >>> Int32.ofNat k) := by
  apply p_ext
  intro i hi
  rw [Int32.toBitVec_xor, BitVec.getLsbD_xor, p_tb _ k hk, p_tb _ k hk, p_tb _ k hk, BitVec.getLsbD_sshiftRight, BitVec.getLsbD_sshiftRight, BitVec.getLsbD_sshiftRight, Int32.toBitVec_xor, BitVec.getLsbD_xor]
  by_cases h2 : k + i < 32
  · simp [h2, show ¬ 32 ≤ i by omega]
  · simp [h2, show ¬ 32 ≤ i by omega, BitVec.msb_eq_getLsbD_last]
theorem p_m15 (j : Nat) : (32768 : Int32).toBitVec.getLsbD j = decide (15 = j) := @Nat.testBit_two_pow 15 j
theorem p_m2b (j : Nat) : (4 : Int32).toBitVec.getLsbD j = decide (2 = j) := @Nat.testBit_two_pow 2 j
theorem p_ov (w : Int32) : (w &&& 32768) >>> (13 : Int32) = (w >>> (13 : Int32)) &&& 4 := by
  apply p_ext
  intro i hi
  rw [show (13 : Int32) = Int32.ofNat 13 from rfl, Int32.toBitVec_and, BitVec.getLsbD_and, p_m2b, p_tb _ 13 (by omega), p_tb _ 13 (by omega), BitVec.getLsbD_sshiftRight, BitVec.getLsbD_sshiftRight, Int32.toBitVec_and, BitVec.getLsbD_and, p_m15]
  by_cases h : i = 2
  · subst h; simp
  · by_cases h2 : 13 + i < 32
    · simp [h2, show ¬ 32 ≤ i by omega, show ¬ 15 = 13 + i by omega, show ¬ 2 = i by omega]
    · simp [h2, show ¬ 32 ≤ i by omega, BitVec.msb_eq_getLsbD_last, p_m15, show ¬ 2 = i by omega]
theorem p_w168 (v : Int32) : ((v &&& 65535) >>> (8 : Int32)) &&& 168 = (v >>> (8 : Int32)) &&& 168 := by
  rw [p_hi, p_aa]; rfl
theorem p_w16 (x v : Int32) : ((x ^^^ (v &&& 65535)) >>> (8 : Int32)) &&& 16 = ((x ^^^ v) >>> (8 : Int32)) &&& 16 := by
  rw [show (8 : Int32) = Int32.ofNat 8 from rfl, p_sx _ _ 8 (by omega), p_sx _ _ 8 (by omega), p_xa, p_xa, show Int32.ofNat 8 = (8 : Int32) from rfl, p_hi, p_aa]; rfl
theorem p_wov (x a v : Int32) : ((x &&& (a ^^^ (v &&& 65535))) &&& 32768) >>> (13 : Int32) = ((x &&& (a ^^^ v)) >>> (13 : Int32)) &&& 4 := by
  rw [← p_ov, p_aa, p_aa, p_xa, p_xa, p_aa]; rfl
theorem p_c17 {a b : Int32} (ha : pw a) (hb : pw b) : p_bit ((a + b) >>> (16 : Int32)) := by
  obtain ⟨n, hn, rfl⟩ := pw_n ha
  obtain ⟨m, hm, rfl⟩ := pw_n hb
  rw [← Int32.ofNat_add, show (16 : Int32) = Int32.ofNat 16 from rfl, p_shr _ 16 (by omega) (by omega), Nat.shiftRight_eq_div_pow]
  have : (n + m) / 2 ^ 16 = 0 ∨ (n + m) / 2 ^ 16 = 1 := by omega
  rcases this with e | e <;> rw [e]
  · exact Or.inl rfl
  · exact Or.inr rfl
theorem p_bit_and1 {o : Int32} (h : p_bit o) : o &&& 1 = o := by rcases h with rfl | rfl <;> rfl
/-- ADD HL,.. -/
theorem c_add16 {σ0 τ0 σ τ : fv_S} {p q : Int32} (h : pRel σ0 τ0 p q σ τ) {hh : Int32} (l : pLk τ0 hh) {v : Int32} (hv : pw v) : ∃ w a σ1 σ' τ', zX7_pair hh σ = fv_ri a σ ∧ zX7_sum16 a v σ = fv_ri w σ1 ∧ zX7_setPair hh w σ1 = fv_rv σ' ∧ zX8_addPair v τ = fv_rv τ' ∧ pRel σ0 τ0 p q σ' τ' := by
  obtain ⟨a, ha, x1, m1⟩ := c_base h l
  have hF := g_f h
  have cb := p_c17 ha hv
  have hb : pb ((((fv_ga τ 23 6 &&& 196) ||| ((((a ^^^ v) ^^^ (a + v)) >>> (8 : Int32)) &&& 16)) ||| ((a + v) >>> (16 : Int32))) ||| (((a + v) >>> (8 : Int32)) &&& 40)) :=
    pb_or (pb_or (pb_or (pb_and _ _ rfl) (pb_and _ _ rfl)) (pb_bit cb)) (pb_and _ _ rfl)
  obtain ⟨σ', τ', x2, m2, r⟩ := c_setb (e_f h hb) l ((a + v) &&& 65535)
  refine ⟨(a + v) &&& 65535, a, _, σ', τ', x1, ?_, x2, ?_, r⟩
  · unfold zX7_sum16; rw [hF.1, p_bit_and1 cb, p_orc]
  · unfold zX8_addPair; rw [m1, fv_bi_ri, m2, fv_bv_rv]
def p_hl (τ : fv_S) : Int32 := (fv_ga τ 23 4 <<< (8 : Int32)) ||| fv_ga τ 23 5
def p_de (τ : fv_S) : Int32 := (fv_ga τ 23 2 <<< (8 : Int32)) ||| fv_ga τ 23 3
def p_bc (τ : fv_S) : Int32 := (fv_ga τ 23 0 <<< (8 : Int32)) ||| fv_ga τ 23 1
theorem x_hl {σ0 τ0 σ τ : fv_S} {p q : Int32} (h : pRel σ0 τ0 p q σ τ) : zX7_hl σ = fv_ri (p_hl τ) σ ∧ pw (p_hl τ) := by
  have a := g_r h 4 (by decide) (by decide)
  have b := g_r h 5 (by decide) (by decide)
  refine ⟨?_, pw_two a.2 b.2⟩
  unfold p_hl; rw [← a.1, ← b.1]; rfl
theorem x_de {σ0 τ0 σ τ : fv_S} {p q : Int32} (h : pRel σ0 τ0 p q σ τ) : zX7_pair 1 σ = fv_ri (p_de τ) σ ∧ pw (p_de τ) := by
  have a := g_r h 2 (by decide) (by decide)
  have b := g_r h 3 (by decide) (by decide)
  refine ⟨?_, pw_two a.2 b.2⟩
  unfold p_de; rw [← a.1, ← b.1]; rfl
theorem x_bc {σ0 τ0 σ τ : fv_S} {p q : Int32} (h : pRel σ0 τ0 p q σ τ) : zX7_pair 0 σ = fv_ri (p_bc τ) σ ∧ pw (p_bc τ) := by
  have a := g_r h 0 (by decide) (by decide)
  have b := g_r h 1 (by decide) (by decide)
  refine ⟨?_, pw_two a.2 b.2⟩
  unfold p_bc; rw [← a.1, ← b.1]; rfl
theorem x_hl2 {σ0 τ0 σ τ : fv_S} {p q : Int32} (h : pRel σ0 τ0 p q σ τ) : zX7_pair 2 σ = fv_ri (p_hl τ) σ ∧ pw (p_hl τ) := by
  have a := g_r h 4 (by decide) (by decide)
  have b := g_r h 5 (by decide) (by decide)
  refine ⟨?_, pw_two a.2 b.2⟩
  unfold p_hl; rw [← a.1, ← b.1]; rfl
def p_uX (σ : fv_S) (a b v : Int32) : fv_S := fv_sa (fv_sa σ 36 a ((v &&& 65535) >>> (8 : Int32))) 36 b ((v &&& 65535) &&& 255)
def p_uM (τ : fv_S) (a b v : Int32) : fv_S := fv_sa (fv_sa τ 23 a ((v >>> (8 : Int32)) &&& 255)) 23 b (v &&& 255)
theorem e_hl {σ0 τ0 σ τ : fv_S} {p q : Int32} (h : pRel σ0 τ0 p q σ τ) (v : Int32) : pRel σ0 τ0 p q (p_uX σ 4 5 v) (p_uM τ 4 5 v) := e_two h 4 5 (by decide) (by decide) v
theorem e_de {σ0 τ0 σ τ : fv_S} {p q : Int32} (h : pRel σ0 τ0 p q σ τ) (v : Int32) : pRel σ0 τ0 p q (p_uX σ 2 3 v) (p_uM τ 2 3 v) := e_two h 2 3 (by decide) (by decide) v
theorem e_bc {σ0 τ0 σ τ : fv_S} {p q : Int32} (h : pRel σ0 τ0 p q σ τ) (v : Int32) : pRel σ0 τ0 p q (p_uX σ 0 1 v) (p_uM τ 0 1 v) := e_two h 0 1 (by decide) (by decide) v
theorem x_shl (v : Int32) (σ : fv_S) : zX7_setPair 2 v σ = fv_rv (p_uX σ 4 5 v) := rfl
theorem x_sde (v : Int32) (σ : fv_S) : zX7_setPair 1 v σ = fv_rv (p_uX σ 2 3 v) := rfl
theorem x_sbc (v : Int32) (σ : fv_S) : zX7_setPair 0 v σ = fv_rv (p_uX σ 0 1 v) := rfl
theorem m_shl (v : Int32) (σ : fv_S) : zX8_setTwo 4 v σ = fv_rv (p_uM σ 4 5 v) := rfl
theorem m_sde (v : Int32) (σ : fv_S) : zX8_setTwo 2 v σ = fv_rv (p_uM σ 2 3 v) := rfl
theorem m_sbc (v : Int32) (σ : fv_S) : zX8_setTwo 0 v σ = fv_rv (p_uM σ 0 1 v) := rfl
theorem m_hl (τ : fv_S) : zX8_two 4 τ = fv_ri (p_hl τ) τ := m_two4 τ
theorem m_de (τ : fv_S) : zX8_two 2 τ = fv_ri (p_de τ) τ := m_two2 τ
theorem m_bc (τ : fv_S) : zX8_two 0 τ = fv_ri (p_bc τ) τ := m_two0 τ
/-- ADC HL,.. and SBC HL,.. -/
theorem c_sum16 {σ0 τ0 σ τ : fv_S} {p q : Int32} (h : pRel σ0 τ0 p q σ τ) (v s : Int32) (hs : p_bit s) : ∃ σ' τ', zX7_carried16 v s σ = fv_rv σ' ∧ zX8_wideSum v s τ = fv_rv τ' ∧ pRel σ0 τ0 p q σ' τ' := by
  have hF := g_f h
  have X : ∀ (w o n : Int32), (s = 0 → n = 2) → (s ≠ 0 → n = 0) → zX7_carried16_62 v s (p_hl τ) w o σ = fv_rv (p_uX (fv_sa σ 36 8 ((((((((w >>> (8 : Int32)) &&& 168) ||| (if w &&& 65535 = 0 then 64 else 0)) ||| ((((p_hl τ ^^^ v) ^^^ w) >>> (8 : Int32)) &&& 16)) ||| ((o >>> (13 : Int32)) &&& 4))) ||| n) ||| ((w >>> (16 : Int32)) &&& 1))) 4 5 w) := by
    intro w o n n1 n2
    unfold zX7_carried16_62 zX7_carried16_93 zX7_carried16_124
    by_cases e1 : w &&& 65535 = 0 <;> by_cases e2 : s = 0
    · rw [n1 e2]; simp only [e1, e2, not_true, if_true, if_false]; rw [if_pos (by decide), x_shl, fv_bv_rv]
    · rw [n2 e2]; simp only [e1, e2, not_true, if_true, if_false]; rw [if_pos (by decide), x_shl, fv_bv_rv]
    · rw [n1 e2]; simp only [e1, e2, not_false_eq_true, if_true, if_false]; rw [if_pos (by decide), x_shl, fv_bv_rv]
    · rw [n2 e2]; simp only [e1, e2, not_false_eq_true, if_true, if_false]; rw [if_pos (by decide), x_shl, fv_bv_rv]
  have M : ∀ (w o n : Int32), (s = 0 → n = 2) → (s ≠ 0 → n = 0) → zX8_wideSum_78 v s (p_hl τ) w (w &&& 65535) o τ = fv_rv (p_uM (fv_sa τ 23 6 (((((((((w &&& 65535) >>> (8 : Int32)) &&& 168) ||| (if w &&& 65535 = 0 then 64 else 0)) ||| ((((p_hl τ ^^^ v) ^^^ (w &&& 65535)) >>> (8 : Int32)) &&& 16)) ||| (o >>> (13 : Int32)))) ||| n) ||| ((w >>> (16 : Int32)) &&& 1))) 4 5 (w &&& 65535)) := by
    intro w o n n1 n2
    unfold zX8_wideSum_78 zX8_wideSum_106 zX8_wideSum_135
    by_cases e1 : w &&& 65535 = 0 <;> by_cases e2 : s = 0
    · rw [n1 e2]; simp only [e1, e2, not_true, if_true, if_false]; rw [if_pos (by decide), m_shl, fv_bv_rv]
    · rw [n2 e2]; simp only [e1, e2, not_true, if_true, if_false]; rw [if_pos (by decide), m_shl, fv_bv_rv]
    · rw [n1 e2]; simp only [e1, e2, not_false_eq_true, if_true, if_false]; rw [if_pos (by decide), m_shl, fv_bv_rv]
    · rw [n2 e2]; simp only [e1, e2, not_false_eq_true, if_true, if_false]; rw [if_pos (by decide), m_shl, fv_bv_rv]
  have U : ∀ (τ : fv_S) (w : Int32), p_uM τ 4 5 (w &&& 65535) = p_uM τ 4 5 w := by
    intro τ w
    unfold p_uM
    rw [p_hi, p_lo, p_aa]; rfl
  have bb : ∀ (w o n : Int32), pb n → pb ((((((((w >>> (8 : Int32)) &&& 168) ||| (if w &&& 65535 = 0 then 64 else 0)) ||| ((((p_hl τ ^^^ v) ^^^ w) >>> (8 : Int32)) &&& 16)) ||| ((o >>> (13 : Int32)) &&& 4))) ||| n) ||| ((w >>> (16 : Int32)) &&& 1)) := by
    intro w o n hn
    refine pb_or (pb_or (pb_or (pb_or (pb_or (pb_and _ _ rfl) ?_) (pb_and _ _ rfl)) (pb_and _ _ rfl)) hn) (pb_and _ _ rfl)
    split <;> rfl
  rcases hs with rfl | rfl
  · refine ⟨_, _, ?_, ?_, e_hl (e_f h (bb ((p_hl τ - v) - (fv_ga τ 23 6 &&& 1)) ((p_hl τ ^^^ v) &&& (p_hl τ ^^^ ((p_hl τ - v) - (fv_ga τ 23 6 &&& 1)))) 2 rfl)) ((p_hl τ - v) - (fv_ga τ 23 6 &&& 1))⟩
    · unfold zX7_carried16
      rw [(x_hl h).1, fv_bi_ri, if_pos rfl, hF.1]
      unfold zX7_carried16_35
      rw [if_pos rfl, X _ _ 2 (fun _ => rfl) (fun e => absurd rfl e)]
    · unfold zX8_wideSum
      rw [m_hl, fv_bi_ri, if_pos rfl]
      unfold zX8_wideSum_36
      rw [if_pos rfl, M _ _ 2 (fun _ => rfl) (fun e => absurd rfl e), U, p_w168, p_w16, p_wov]
  · refine ⟨_, _, ?_, ?_, e_hl (e_f h (bb ((p_hl τ + v) + (fv_ga τ 23 6 &&& 1)) ((p_hl τ ^^^ (v ^^^ ((-1) : Int32))) &&& (p_hl τ ^^^ ((p_hl τ + v) + (fv_ga τ 23 6 &&& 1)))) 0 rfl)) ((p_hl τ + v) + (fv_ga τ 23 6 &&& 1))⟩
    · unfold zX7_carried16
      rw [(x_hl h).1, fv_bi_ri, if_neg (by decide), hF.1]
      unfold zX7_carried16_35
      rw [if_neg (by decide), X _ _ 0 (fun e => absurd e (by decide)) (fun _ => rfl)]
    · unfold zX8_wideSum
      rw [m_hl, fv_bi_ri, if_neg (by decide)]
      unfold zX8_wideSum_36
      rw [if_neg (by decide), M _ _ 0 (fun e => absurd e (by decide)) (fun _ => rfl), U, p_w168, p_w16, p_wov]
