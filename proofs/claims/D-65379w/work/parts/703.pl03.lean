set_option maxRecDepth 100000
set_option maxHeartbeats 4000000
/-! The plain law: octets, pairs, places, memory. -/
theorem p_and16 (x : Int32) : (x &&& 65535).toBitVec.toNat = x.toBitVec.toNat % 65536 := by
  rw [Int32.toBitVec_and, BitVec.toNat_and]
  exact Nat.and_two_pow_sub_one_eq_mod _ 16
theorem p_eq16 {x y : Int32} : x &&& 65535 = y &&& 65535 ↔ x.toBitVec.toNat % 65536 = y.toBitVec.toNat % 65536 := by
  rw [← p_and16, ← p_and16]
  constructor
  · intro e; rw [e]
  · intro e; exact Int32.toBitVec_inj.1 (BitVec.eq_of_toNat_eq e)
theorem p_add16 {x y : Int32} (h : x &&& 65535 = y &&& 65535) (k : Int32) : (x + k) &&& 65535 = (y + k) &&& 65535 := by
  rw [p_eq16] at h ⊢
  rw [Int32.toBitVec_add, Int32.toBitVec_add, BitVec.toNat_add, BitVec.toNat_add]
  omega
theorem p_sub16 {x y : Int32} (h : x &&& 65535 = y &&& 65535) (k : Int32) : (x - k) &&& 65535 = (y - k) &&& 65535 := by
  rw [p_eq16] at h ⊢
  rw [Int32.toBitVec_sub, Int32.toBitVec_sub, BitVec.toNat_sub, BitVec.toNat_sub]
  omega
theorem p_idem16 (x : Int32) : (x &&& 65535) &&& 65535 = x &&& 65535 := pw_a x
theorem x_get (a : Int32) (σ : fv_S) : zX7_get a σ = fv_ri (fv_ga σ 35 (a &&& 65535) &&& 255) σ := by
  unfold zX7_get; rw [if_pos (p_in16 a)]
theorem m_peek (a : Int32) (σ : fv_S) : zX8_peek a σ = fv_ri (fv_ga σ 13 (a &&& 65535)) σ := by
  unfold zX8_peek; rw [if_pos (p_in16 a)]
theorem x_put (a v : Int32) (σ : fv_S) : zX7_put a v σ = fv_rv (fv_sa σ 35 (a &&& 65535) (p_se v)) := by
  unfold zX7_put; rw [if_pos (p_in16 a)]
  exact congrArg (fun w => fv_rv (fv_sa σ 35 (a &&& 65535) w)) (p_se_se v)
theorem m_store (a v : Int32) (σ : fv_S) : zX8_store a v σ = fv_rv (fv_sa σ 13 (a &&& 65535) (v &&& 255)) := by
  unfold zX8_store; rw [if_pos (p_in16 a)]
theorem c_get {σ0 τ0 σ τ : fv_S} {p q : Int32} (h : pRel σ0 τ0 p q σ τ) {a a' : Int32} (ha : a &&& 65535 = a' &&& 65535) : ∃ v, pb v ∧ zX7_get a σ = fv_ri v σ ∧ zX8_peek a' τ = fv_ri v τ := by
  refine ⟨fv_ga τ 13 (a' &&& 65535), (g_m h a').2, ?_, m_peek _ _⟩
  rw [x_get, ha, (g_m h a').1]
theorem c_wide {σ0 τ0 σ τ : fv_S} {p q : Int32} (h : pRel σ0 τ0 p q σ τ) {a a' : Int32} (ha : a &&& 65535 = a' &&& 65535) : ∃ v, pw v ∧ zX7_get16 a σ = fv_ri v σ ∧ zX8_wide a' τ = fv_ri v τ := by
  obtain ⟨v, hv, x1, m1⟩ := c_get h ha
  obtain ⟨w, hw, x2, m2⟩ := c_get h (p_add16 ha 1)
  refine ⟨v ||| (w <<< (8 : Int32)), pw_or (pw_b hv) (pw_shl hw), ?_, ?_⟩
  · unfold zX7_get16; rw [x1, fv_bi_ri, x2, fv_bi_ri]
  · unfold zX8_wide; rw [m1, fv_bi_ri, m2, fv_bi_ri]
theorem x_put16 (a v : Int32) (σ : fv_S) : zX7_put16 a v σ = fv_rv (fv_sa (fv_sa σ 35 (a &&& 65535) (p_se v)) 35 ((a + 1) &&& 65535) (p_se (v >>> (8 : Int32)))) := by
  unfold zX7_put16; rw [x_put, fv_bv_rv, x_put, fv_bv_rv]
theorem c_push {σ0 τ0 σ τ : fv_S} {p q : Int32} (h : pRel σ0 τ0 p q σ τ) (v : Int32) : ∃ σ' τ', zX7_push v σ = fv_rv σ' ∧ zX8_pushTwo v τ = fv_rv τ' ∧ pRel σ0 τ0 p q σ' τ' ∧ fv_gi σ' 4358 = fv_gi σ 4358 ∧ (∀ k, 4359 ≤ k → fv_gi σ' k = fv_gi σ k) ∧ (∀ k, k ≠ 75 → fv_gi τ' k = fv_gi τ k) := by
  have s := g_sp h
  refine ⟨_, _, ?_, ?_, e_m (e_m (e_sp h (pw_a (fv_gi τ 75 - 2))) (((fv_gi τ 75 - 2) &&& 65535) &&& 65535) v) ((((fv_gi τ 75 - 2) &&& 65535) + 1) &&& 65535) (v >>> (8 : Int32)), rfl, fun k hk => if_neg (by omega), fun k hk => if_neg hk⟩
  · unfold zX7_push; rw [x_put16, fv_bv_rv, s.1]
  · unfold zX8_pushTwo; rw [m_store, fv_bv_rv, m_store, fv_bv_rv]; rfl
theorem c_pop {σ0 τ0 σ τ : fv_S} {p q : Int32} (h : pRel σ0 τ0 p q σ τ) : ∃ v σ' τ', pw v ∧ zX7_pop σ = fv_ri v σ' ∧ zX8_popTwo τ = fv_ri v τ' ∧ pRel σ0 τ0 p q σ' τ' ∧ fv_gi σ' 4362 = fv_gi σ 4362 ∧ fv_gi τ' 78 = fv_gi τ 78 := by
  have s := g_sp h
  obtain ⟨v, hv, x1, m1⟩ := c_wide h (a := fv_gi τ 75) (a' := fv_gi τ 75) rfl
  refine ⟨v, _, _, hv, ?_, ?_, e_sp h (pw_a (fv_gi τ 75 + 2)), rfl, rfl⟩
  · unfold zX7_pop; rw [s.1, x1, fv_bi_ri, s.1]
  · unfold zX8_popTwo; rw [m1, fv_bi_ri]
def pIx (τ0 : fv_S) : Prop := fv_gi τ0 60 = 0 ∨ fv_gi τ0 60 = 1 ∨ fv_gi τ0 60 = 2
def pLk (τ0 : fv_S) (hh : Int32) : Prop := (fv_gi τ0 60 = 0 ∧ hh = 2) ∨ (fv_gi τ0 60 = 1 ∧ hh = 6) ∨ (fv_gi τ0 60 = 2 ∧ hh = 7)
theorem pLk_ix {τ0 : fv_S} {hh : Int32} (l : pLk τ0 hh) : pIx τ0 := by
  rcases l with l | l | l
  · exact Or.inl l.1
  · exact Or.inr (Or.inl l.1)
  · exact Or.inr (Or.inr l.1)
def p_pl (τ : fv_S) : Int32 := if fv_gi τ 60 = 0 then (fv_ga τ 23 4 <<< (8 : Int32)) ||| fv_ga τ 23 5 else (fv_ga τ 25 (fv_gi τ 60) + fv_gi τ 62) &&& 65535
theorem m_two4 (τ : fv_S) : zX8_two 4 τ = fv_ri ((fv_ga τ 23 4 <<< (8 : Int32)) ||| fv_ga τ 23 5) τ := by
  unfold zX8_two; rw [if_pos (by decide), if_pos (by decide)]; rfl
theorem m_two2 (τ : fv_S) : zX8_two 2 τ = fv_ri ((fv_ga τ 23 2 <<< (8 : Int32)) ||| fv_ga τ 23 3) τ := by
  unfold zX8_two; rw [if_pos (by decide), if_pos (by decide)]; rfl
theorem m_two0 (τ : fv_S) : zX8_two 0 τ = fv_ri ((fv_ga τ 23 0 <<< (8 : Int32)) ||| fv_ga τ 23 1) τ := by
  unfold zX8_two; rw [if_pos (by decide), if_pos (by decide)]; rfl
theorem m_place {τ0 τ : fv_S} (ix : pIx τ0) (e : fv_gi τ 60 = fv_gi τ0 60) : zX8_placeAt τ = fv_ri (p_pl τ) τ := by
  unfold zX8_placeAt p_pl
  rcases ix with ix | ix | ix <;> rw [ix] at e <;> rw [e]
  · rw [if_neg (by decide), if_pos rfl, m_two4, fv_bi_ri]
  · rw [if_pos (by decide), if_pos (by decide), if_neg (by decide)]
  · rw [if_pos (by decide), if_pos (by decide), if_neg (by decide)]
theorem p_y8c {z : Int32} (hz : p_y8 z) (h6 : z ≠ 6) : z.toNatClampNeg < 8 ∧ z.toNatClampNeg ≠ 6 ∧ fv_in z 9 ∧ fv_in z 8 := by
  rcases hz with rfl | rfl | rfl | rfl | rfl | rfl | rfl | rfl
  · decide
  · decide
  · decide
  · decide
  · decide
  · decide
  · exact absurd rfl h6
  · decide
theorem c_oct {σ0 τ0 σ τ : fv_S} {p q : Int32} (h : pRel σ0 τ0 p q σ τ) (ix : pIx τ0) {z pl : Int32} (hz : p_y8 z) (hp : pl &&& 65535 = p_pl τ &&& 65535) : ∃ v, pb v ∧ zX7_octet z pl σ = fv_ri v σ ∧ zX8_octetAt z τ = fv_ri v τ := by
  by_cases h6 : z = 6
  · obtain ⟨v, hv, x1, m1⟩ := c_get h hp
    refine ⟨v, hv, ?_, ?_⟩
    · unfold zX7_octet; rw [if_neg (not_not_intro h6), x1, fv_bi_ri]
    · unfold zX8_octetAt; rw [if_neg (not_not_intro h6), m_place ix (g_k h 60 (by omega)), fv_bi_ri, m1, fv_bi_ri]
  · obtain ⟨c1, c2, c3, c4⟩ := p_y8c hz h6
    have r := g_r h z c1 c2
    refine ⟨_, r.2, ?_, ?_⟩
    · unfold zX7_octet; rw [if_pos h6, if_pos c3, r.1]
    · unfold zX8_octetAt; rw [if_pos h6, if_pos c4]
theorem c_seto {σ0 τ0 σ τ : fv_S} {p q : Int32} (h : pRel σ0 τ0 p q σ τ) (ix : pIx τ0) {z pl : Int32} (hz : p_y8 z) (hp : pl &&& 65535 = p_pl τ &&& 65535) (v : Int32) : ∃ σ' τ', zX7_setOctet z pl v σ = fv_rv σ' ∧ zX8_setOctet z v τ = fv_rv τ' ∧ pRel σ0 τ0 p q σ' τ' := by
  by_cases h6 : z = 6
  · refine ⟨_, _, ?_, ?_, e_m h (p_pl τ &&& 65535) v⟩
    · unfold zX7_setOctet; rw [if_neg (not_not_intro h6), x_put, fv_bv_rv, hp]
    · unfold zX8_setOctet; rw [if_neg (not_not_intro h6), m_place ix (g_k h 60 (by omega)), fv_bi_ri, m_store, fv_bv_rv]
  · obtain ⟨c1, c2, c3, c4⟩ := p_y8c hz h6
    refine ⟨_, _, ?_, ?_, e_r h z c1 c2 (pb_a255 v)⟩
    · unfold zX7_setOctet; rw [if_pos h6, if_pos c3]
    · unfold zX8_setOctet; rw [if_pos h6, if_pos c4]
theorem c_base {σ0 τ0 σ τ : fv_S} {p q : Int32} (h : pRel σ0 τ0 p q σ τ) {hh : Int32} (l : pLk τ0 hh) : ∃ v, pw v ∧ zX7_pair hh σ = fv_ri v σ ∧ zX8_base τ = fv_ri v τ := by
  have e := g_k h 60 (by omega)
  rcases l with ⟨l, rfl⟩ | ⟨l, rfl⟩ | ⟨l, rfl⟩ <;> rw [l] at e
  · have r4 := g_r h 4 (by decide) (by decide)
    have r5 := g_r h 5 (by decide) (by decide)
    refine ⟨_, pw_two r4.2 r5.2, ?_, ?_⟩
    · rw [← r4.1, ← r5.1]; rfl
    · unfold zX8_base; rw [e, if_neg (by decide), m_two4, fv_bi_ri]
  · have r := g_x1 h
    refine ⟨_, r.2, ?_, ?_⟩
    · rw [← r.1]; rfl
    · unfold zX8_base; rw [e, if_pos (by decide), if_pos (by decide)]
  · have r := g_x2 h
    refine ⟨_, r.2, ?_, ?_⟩
    · rw [← r.1]; rfl
    · unfold zX8_base; rw [e, if_pos (by decide), if_pos (by decide)]
theorem p_tb (x : Int32) (k : Nat) (hk : k < 32) : (x >>> Int32.ofNat k).toBitVec = x.toBitVec.sshiftRight k := by
  rw [Int32.toBitVec_shiftRight]
  have h2 : (Int32.ofNat k).toBitVec.smod 32 = BitVec.ofNat 32 k := by
    have : ∀ k, k < 32 → (Int32.ofNat k).toBitVec.smod 32 = BitVec.ofNat 32 k := by decide +kernel
    exact this k hk
  have h3 : (BitVec.ofNat 32 k).toNat = k := by simp; omega
  rw [h2, BitVec.sshiftRight_eq', h3]
theorem p_m16 (j : Nat) : (65535 : Int32).toBitVec.getLsbD j = decide (j < 16) := Nat.testBit_two_pow_sub_one 16 j
theorem p_m8 (j : Nat) : (255 : Int32).toBitVec.getLsbD j = decide (j < 8) := Nat.testBit_two_pow_sub_one 8 j
theorem p_hi (v : Int32) : (v &&& 65535) >>> (8 : Int32) = (v >>> (8 : Int32)) &&& 255 := by
  apply p_ext
  intro i hi
  rw [Int32.toBitVec_and, BitVec.getLsbD_and, p_m8, show (8 : Int32) = Int32.ofNat 8 from rfl, p_tb _ 8 (by omega), p_tb _ 8 (by omega), BitVec.getLsbD_sshiftRight, BitVec.getLsbD_sshiftRight, Int32.toBitVec_and, BitVec.getLsbD_and, p_m16]
  by_cases h : i < 8
  · simp [h, show ¬ 32 ≤ i by omega, show 8 + i < 32 by omega, show 8 + i < 16 by omega]
  · by_cases h2 : 8 + i < 32
    · simp [h, h2, show ¬ 32 ≤ i by omega, show ¬ 8 + i < 16 by omega]
    · simp [h, h2, show ¬ 32 ≤ i by omega, BitVec.msb_eq_getLsbD_last, p_m16]
theorem p_lo (v : Int32) : (v &&& 65535) &&& 255 = v &&& 255 := by rw [p_aa]; rfl
theorem e_two {σ0 τ0 σ τ : fv_S} {p q : Int32} (h : pRel σ0 τ0 p q σ τ) (a b : Int32) (ha : a.toNatClampNeg < 8 ∧ a.toNatClampNeg ≠ 6) (hb : b.toNatClampNeg < 8 ∧ b.toNatClampNeg ≠ 6) (v : Int32) : pRel σ0 τ0 p q (fv_sa (fv_sa σ 36 a ((v &&& 65535) >>> (8 : Int32))) 36 b ((v &&& 65535) &&& 255)) (fv_sa (fv_sa τ 23 a ((v >>> (8 : Int32)) &&& 255)) 23 b (v &&& 255)) := by
  rw [p_hi, p_lo]
  exact e_r (e_r h a ha.1 ha.2 (pb_a255 _)) b hb.1 hb.2 (pb_a255 _)
theorem c_setb {σ0 τ0 σ τ : fv_S} {p q : Int32} (h : pRel σ0 τ0 p q σ τ) {hh : Int32} (l : pLk τ0 hh) (v : Int32) : ∃ σ' τ', zX7_setPair hh v σ = fv_rv σ' ∧ zX8_setBase v τ = fv_rv τ' ∧ pRel σ0 τ0 p q σ' τ' := by
  have e := g_k h 60 (by omega)
  rcases l with ⟨l, rfl⟩ | ⟨l, rfl⟩ | ⟨l, rfl⟩ <;> rw [l] at e
  · refine ⟨_, _, rfl, ?_, e_two h 4 5 (by decide) (by decide) v⟩
    unfold zX8_setBase; rw [e, if_neg (by decide)]; rfl
  · refine ⟨_, _, rfl, ?_, e_x1 h (pw_a v)⟩
    unfold zX8_setBase; rw [e, if_pos (by decide), if_pos (by decide)]
  · refine ⟨_, _, rfl, ?_, e_x2 h (pw_a v)⟩
    unfold zX8_setBase; rw [e, if_pos (by decide), if_pos (by decide)]
def p_q4 (x : Int32) : Prop := x = 0 ∨ x = 1 ∨ x = 2 ∨ x = 3
theorem c_pair {σ0 τ0 σ τ : fv_S} {p q : Int32} (h : pRel σ0 τ0 p q σ τ) {hh : Int32} (l : pLk τ0 hh) {x : Int32} (hx : p_q4 x) : ∃ v, pw v ∧ zX7_pair (if x = 2 then hh else x) σ = fv_ri v σ ∧ zX8_pairAt x τ = fv_ri v τ := by
  rcases hx with rfl | rfl | rfl | rfl
  · have r4 := g_r h 0 (by decide) (by decide)
    have r5 := g_r h 1 (by decide) (by decide)
    refine ⟨_, pw_two r4.2 r5.2, ?_, ?_⟩
    · rw [← r4.1, ← r5.1]; rfl
    · rfl
  · have r4 := g_r h 2 (by decide) (by decide)
    have r5 := g_r h 3 (by decide) (by decide)
    refine ⟨_, pw_two r4.2 r5.2, ?_, ?_⟩
    · rw [← r4.1, ← r5.1]; rfl
    · rfl
  · obtain ⟨v, hv, x1, m1⟩ := c_base h l
    refine ⟨v, hv, x1, ?_⟩
    unfold zX8_pairAt; rw [if_neg (by decide), m1, fv_bi_ri]
  · have s := g_sp h
    refine ⟨_, s.2, ?_, rfl⟩
    rw [← s.1]; rfl
theorem c_setp {σ0 τ0 σ τ : fv_S} {p q : Int32} (h : pRel σ0 τ0 p q σ τ) {hh : Int32} (l : pLk τ0 hh) {x : Int32} (hx : p_q4 x) (v : Int32) : ∃ σ' τ', zX7_setPair (if x = 2 then hh else x) v σ = fv_rv σ' ∧ zX8_setPair x v τ = fv_rv τ' ∧ pRel σ0 τ0 p q σ' τ' := by
  rcases hx with rfl | rfl | rfl | rfl
  · exact ⟨_, _, rfl, rfl, e_two h 0 1 (by decide) (by decide) v⟩
  · exact ⟨_, _, rfl, rfl, e_two h 2 3 (by decide) (by decide) v⟩
  · obtain ⟨σ', τ', x1, m1, r⟩ := c_setb h l v
    refine ⟨σ', τ', x1, ?_, r⟩
    unfold zX8_setPair; rw [if_neg (by decide), m1, fv_bv_rv]
  · exact ⟨_, _, rfl, rfl, e_sp h (pw_a v)⟩
