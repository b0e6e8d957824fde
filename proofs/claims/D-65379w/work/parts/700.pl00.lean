set_option maxRecDepth 100000
set_option maxHeartbeats 4000000
/-! The plain law: bits, octets, words of 16 bits. -/
def pb (v : Int32) : Prop := v &&& 255 = v
def pw (v : Int32) : Prop := v &&& 65535 = v
def p_se (v : Int32) : Int32 := (Int32.toInt8 v).toInt32
theorem p_ext (a b : Int32) (h : ∀ i, i < 32 → a.toBitVec.getLsbD i = b.toBitVec.getLsbD i) : a = b := Int32.toBitVec_inj.1 (BitVec.eq_of_getLsbD_eq h)
theorem p_aa (a b c : Int32) : (a &&& b) &&& c = a &&& (b &&& c) := Int32.and_assoc a b c
theorem p_oa (a b c : Int32) : (a ||| b) &&& c = (a &&& c) ||| (b &&& c) := by
  apply p_ext; intro i hi; simp [Bool.and_or_distrib_right]
theorem p_xa (a b c : Int32) : (a ^^^ b) &&& c = (a &&& c) ^^^ (b &&& c) := by
  apply p_ext; intro i hi; simp [Bool.and_xor_distrib_right]
theorem p_ofn (n : Nat) (h : n < 2147483648) : (Int32.ofNat n).toInt = n := Int32.toInt_ofNat_of_lt h
theorem p_cl (n : Nat) (h : n < 2147483648) : (Int32.ofNat n).toNatClampNeg = n := Int32.toNatClampNeg_ofNat_of_lt h
theorem p_andn (v : Int32) (m : Nat) (hm : m < 2147483648) : ∃ n, n ≤ m ∧ v &&& Int32.ofNat m = Int32.ofNat n := by
  refine ⟨v.toBitVec.toNat &&& m, Nat.and_le_right, ?_⟩
  apply Int32.toBitVec_inj.1
  apply BitVec.eq_of_toNat_eq
  simp [Int32.toBitVec_and]
theorem pb_n {v : Int32} (h : pb v) : ∃ n, n < 256 ∧ v = Int32.ofNat n := by
  obtain ⟨n, hn, e⟩ := p_andn v 255 (by decide)
  exact ⟨n, by omega, h.symm.trans e⟩
theorem pw_n {v : Int32} (h : pw v) : ∃ n, n < 65536 ∧ v = Int32.ofNat n := by
  obtain ⟨n, hn, e⟩ := p_andn v 65535 (by decide)
  exact ⟨n, by omega, h.symm.trans e⟩
theorem p_in16 (x : Int32) : fv_in (x &&& 65535) 65536 := by
  obtain ⟨n, hn, e⟩ := p_andn x 65535 (by decide)
  rw [show (65535 : Int32) = Int32.ofNat 65535 from rfl, e]
  intro h
  rw [p_cl n (by omega)] at h
  have := p_ofn n (by omega)
  rw [Int32.lt_iff_toInt_lt] at h
  rw [this] at h
  simp at h
  omega
theorem p_in8 (x : Int32) : fv_in (x &&& 255) 256 := by
  obtain ⟨n, hn, e⟩ := p_andn x 255 (by decide)
  rw [show (255 : Int32) = Int32.ofNat 255 from rfl, e]
  intro h
  rw [p_cl n (by omega)] at h
  have := p_ofn n (by omega)
  rw [Int32.lt_iff_toInt_lt] at h
  rw [this] at h
  simp at h
  omega
theorem p_all8 {P : Int32 → Prop} (h : ∀ n, n < 256 → P (Int32.ofNat n)) {v : Int32} (hv : pb v) : P v := by
  obtain ⟨n, hn, e⟩ := pb_n hv
  exact e ▸ h n hn
theorem p_ofN (n : Nat) (h : n < 256) : pb (Int32.ofNat n) := by
  have : ∀ n, n < 256 → (Int32.ofNat n) &&& (255 : Int32) = Int32.ofNat n := by decide +kernel
  exact this n h
theorem pb_and (a b : Int32) (h : pb b) : pb (a &&& b) := by unfold pb at *; rw [p_aa, h]
theorem pb_andl (a b : Int32) (h : pb a) : pb (a &&& b) := by unfold pb at *; rw [Int32.and_comm a b, p_aa, h]
theorem pb_or {a b : Int32} (h : pb a) (g : pb b) : pb (a ||| b) := by unfold pb at *; rw [p_oa, h, g]
theorem pb_xor {a b : Int32} (h : pb a) (g : pb b) : pb (a ^^^ b) := by unfold pb at *; rw [p_xa, h, g]
theorem pb_a255 (a : Int32) : pb (a &&& 255) := pb_and a 255 rfl
theorem pw_and (a b : Int32) (h : pw b) : pw (a &&& b) := by unfold pw at *; rw [p_aa, h]
theorem pw_or {a b : Int32} (h : pw a) (g : pw b) : pw (a ||| b) := by unfold pw at *; rw [p_oa, h, g]
theorem pw_a (a : Int32) : pw (a &&& 65535) := pw_and a 65535 rfl
theorem pw_b {a : Int32} (h : pb a) : pw a := by
  have : ∀ n, n < 256 → (Int32.ofNat n) &&& (65535 : Int32) = Int32.ofNat n := by decide +kernel
  exact p_all8 this h
theorem pw_shl {a : Int32} (h : pb a) : pw (a <<< (8 : Int32)) := by
  have : ∀ n, n < 256 → ((Int32.ofNat n) <<< (8 : Int32)) &&& (65535 : Int32) = (Int32.ofNat n) <<< (8 : Int32) := by decide +kernel
  exact p_all8 (P := fun a => pw (a <<< (8 : Int32))) this h
theorem pw_two {a b : Int32} (h : pb a) (g : pb b) : pw ((a <<< (8 : Int32)) ||| b) := pw_or (pw_shl h) (pw_b g)
theorem pb_shr {a : Int32} (h : pb a) : pb (a >>> (1 : Int32)) ∧ pb (a >>> (4 : Int32)) ∧ pb (a >>> (5 : Int32)) ∧ pb (a >>> (7 : Int32)) ∧ pb (a >>> (6 : Int32)) := by
  have : ∀ n, n < 256 → ((Int32.ofNat n) >>> (1 : Int32)) &&& (255 : Int32) = (Int32.ofNat n) >>> (1 : Int32) ∧ ((Int32.ofNat n) >>> (4 : Int32)) &&& (255 : Int32) = (Int32.ofNat n) >>> (4 : Int32) ∧ ((Int32.ofNat n) >>> (5 : Int32)) &&& (255 : Int32) = (Int32.ofNat n) >>> (5 : Int32) ∧ ((Int32.ofNat n) >>> (7 : Int32)) &&& (255 : Int32) = (Int32.ofNat n) >>> (7 : Int32) ∧ ((Int32.ofNat n) >>> (6 : Int32)) &&& (255 : Int32) = (Int32.ofNat n) >>> (6 : Int32) := by decide +kernel
  exact p_all8 (P := fun a => pb (a >>> (1 : Int32)) ∧ pb (a >>> (4 : Int32)) ∧ pb (a >>> (5 : Int32)) ∧ pb (a >>> (7 : Int32)) ∧ pb (a >>> (6 : Int32))) this h
theorem p_shr (n k : Nat) (hn : n < 2147483648) (hk : k < 32) : Int32.ofNat n >>> Int32.ofNat k = Int32.ofNat (n >>> k) := by
  apply Int32.toInt_inj.1
  have h1 : n >>> k ≤ n := Nat.shiftRight_le n k
  rw [p_ofn _ (by omega), ← Int32.toInt_toBitVec, Int32.toBitVec_shiftRight]
  have h2 : (Int32.ofNat k).toBitVec.smod 32 = BitVec.ofNat 32 k := by
    have : ∀ k, k < 32 → (Int32.ofNat k).toBitVec.smod 32 = BitVec.ofNat 32 k := by decide +kernel
    exact this k hk
  rw [h2, BitVec.sshiftRight_eq', BitVec.toInt_sshiftRight, Int32.toInt_toBitVec, p_ofn n hn]
  have h3 : (BitVec.ofNat 32 k).toNat = k := by simp; omega
  rw [h3]
  rfl
theorem pw_shr8 {a : Int32} (h : pw a) : pb (a >>> (8 : Int32)) := by
  obtain ⟨n, hn, rfl⟩ := pw_n h
  rw [show (8 : Int32) = Int32.ofNat 8 from rfl, p_shr n 8 (by omega) (by omega)]
  apply p_ofN
  rw [Nat.shiftRight_eq_div_pow]
  omega
theorem p_se_n : ∀ n, n < 256 → p_se (Int32.ofNat n) &&& (255 : Int32) = Int32.ofNat n := by decide +kernel
theorem p_se255 {v : Int32} (h : pb v) : p_se v &&& (255 : Int32) = v := p_all8 (P := fun v => p_se v &&& (255 : Int32) = v) p_se_n h
theorem p_se_se (v : Int32) : p_se (p_se v) = p_se v := by unfold p_se; simp
theorem p_se_a (v : Int32) : p_se (v &&& 255) = p_se v := by
  unfold p_se
  congr 1
  apply Int8.toBitVec_inj.1
  apply BitVec.eq_of_getLsbD_eq
  intro i hi
  simp [Int32.toBitVec_toInt8]
  intro h
  have : i = 0 ∨ i = 1 ∨ i = 2 ∨ i = 3 ∨ i = 4 ∨ i = 5 ∨ i = 6 ∨ i = 7 := by omega
  rcases this with h | h | h | h | h | h | h | h <;> subst h <;> decide
theorem pb_c0 : pb 0 := rfl
theorem pb_bit {v : Int32} (h : v = 0 ∨ v = 1) : pb v := by rcases h with rfl | rfl <;> rfl
theorem p_bit1 (v : Int32) : v &&& 1 = 0 ∨ v &&& 1 = 1 := by
  obtain ⟨n, hn, e⟩ := p_andn v 1 (by decide)
  rw [show (1 : Int32) = Int32.ofNat 1 from rfl, e]
  have : n = 0 ∨ n = 1 := by omega
  rcases this with rfl | rfl
  · left; rfl
  · right; rfl
theorem p_bnd8 {v : Int32} (h : pb v) : 0 ≤ v.toInt ∧ v.toInt < 256 ∧ v.toNatClampNeg < 256 := by
  obtain ⟨n, hn, rfl⟩ := pb_n h
  rw [p_ofn n (by omega), p_cl n (by omega)]; omega
theorem p_bnd16 {v : Int32} (h : pw v) : 0 ≤ v.toInt ∧ v.toInt < 65536 ∧ v.toNatClampNeg < 65536 := by
  obtain ⟨n, hn, rfl⟩ := pw_n h
  rw [p_ofn n (by omega), p_cl n (by omega)]; omega
theorem p_in256 {v : Int32} (h : pb v) : fv_in v 256 := by
  have := p_in8 v
  rwa [show v &&& 255 = v from h] at this
theorem p_in65536 {v : Int32} (h : pw v) : fv_in v 65536 := by
  have := p_in16 v
  rwa [show v &&& 65535 = v from h] at this
