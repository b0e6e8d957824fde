set_option maxRecDepth 100000
set_option maxHeartbeats 4000000
/-! The plain law: which instruction stands at an address. -/
def p_v (o : Option fv_O) : Int32 := match o with
  | some (.inl (some (.inl r)), _) => r
  | _ => -7
def p_σd : fv_S := (fun _ => 0, fun _ => 0, fun _ _ => 0, 0)
noncomputable def p_ln (b : Int32) : Int32 := p_v (zX8_plainLength b p_σd)
noncomputable def p_hp (b : Int32) : Int32 := p_v (zX8_hasPlace b p_σd)
noncomputable def p_hh (b : Int32) : Int32 := p_v (zX8_hasHL b p_σd)
noncomputable def p_b7 (b : Int32) : Int32 := p_v (zX8_isBehind237 b p_σd)
def p_K (f : fv_S → Option fv_O) : Prop := ∃ r, ∀ σ, f σ = fv_ri r σ
theorem p_Kr (r : Int32) : p_K (fun σ => fv_ri r σ) := ⟨r, fun _ => rfl⟩
theorem p_Ki {P : Prop} {d : Decidable P} {f g : fv_S → Option fv_O} (hf : p_K f) (hg : p_K g) : p_K (fun σ => @ite _ P d (f σ) (g σ)) := by
  by_cases h : P
  · obtain ⟨r, hr⟩ := hf; exact ⟨r, fun σ => (if_pos h).trans (hr σ)⟩
  · obtain ⟨r, hr⟩ := hg; exact ⟨r, fun σ => (if_neg h).trans (hr σ)⟩
theorem p_Kv {f : fv_S → Option fv_O} (h : p_K f) (σ : fv_S) : f σ = fv_ri (p_v (f p_σd)) σ := by
  obtain ⟨r, hr⟩ := h
  rw [hr σ, hr p_σd]; rfl
theorem m_len (b : Int32) (σ : fv_S) : zX8_plainLength b σ = fv_ri (p_ln b) σ := by
  refine p_Kv (f := fun σ => zX8_plainLength b σ) ?_ σ
  unfold zX8_plainLength
  repeat (first | exact p_Kr _ | apply p_Ki)
theorem m_hp (b : Int32) (σ : fv_S) : zX8_hasPlace b σ = fv_ri (p_hp b) σ := by
  refine p_Kv (f := fun σ => zX8_hasPlace b σ) ?_ σ
  unfold zX8_hasPlace zX8_hasPlace_36 zX8_hasPlace_42 zX8_hasPlace_54
  repeat (first | exact p_Kr _ | apply p_Ki)
theorem m_hh (b : Int32) (σ : fv_S) : zX8_hasHL b σ = fv_ri (p_hh b) σ := by
  refine p_Kv (f := fun σ => zX8_hasHL b σ) ?_ σ
  unfold zX8_hasHL zX8_hasHL_36 zX8_hasHL_51 zX8_hasHL_101 zX8_hasHL_111
  repeat (first | exact p_Kr _ | apply p_Ki)
theorem m_b7 (b : Int32) (σ : fv_S) : zX8_isBehind237 b σ = fv_ri (p_b7 b) σ := by
  refine p_Kv (f := fun σ => zX8_isBehind237 b σ) ?_ σ
  unfold zX8_isBehind237 zX8_isBehind237_88
  repeat (first | exact p_Kr _ | apply p_Ki)
def p_x (b : Int32) : Int32 := b >>> (6 : Int32)
def p_yy (b : Int32) : Int32 := (b >>> (3 : Int32)) &&& 7
def p_zz (b : Int32) : Int32 := b &&& 7
def p_nb (b : Int32) : Int32 := if p_x b = 0 then p_nb0 (p_yy b) (p_zz b) else if p_x b = 3 then p_nb3 (p_yy b) (p_zz b) else 0
theorem p_f1 : ∀ n, n < 256 → p_ln (Int32.ofNat n) = 1 + p_nb (Int32.ofNat n) := by decide +kernel
theorem p_f2 : ∀ n, n < 256 → (p_hp (Int32.ofNat n) = 0 ∨ p_hp (Int32.ofNat n) = 1) ∧ (p_hh (Int32.ofNat n) = 0 ∨ p_hh (Int32.ofNat n) = 1) ∧ (p_b7 (Int32.ofNat n) = 0 ∨ p_b7 (Int32.ofNat n) = 1) := by decide +kernel
theorem p_f3 : ∀ n, n < 256 → ¬ (p_hp (Int32.ofNat n) = 1 ∨ p_hh (Int32.ofNat n) = 1) ∨ ((p_x (Int32.ofNat n) ≠ 0 ∨ p_zz (Int32.ofNat n) ≠ 0) ∧ (p_x (Int32.ofNat n) ≠ 3 ∨ ((p_zz (Int32.ofNat n) ≠ 3 ∨ p_yy (Int32.ofNat n) ≠ 1) ∧ (p_zz (Int32.ofNat n) ≠ 5 ∨ p_yy (Int32.ofNat n) &&& 1 ≠ 1 ∨ p_yy (Int32.ofNat n) = 1))) ∧ Int32.ofNat n ≠ 118) := by decide +kernel
theorem p_f4 : ∀ n, n < 256 → n = 203 ∨ n = 221 ∨ n = 237 ∨ n = 253 ∨ p_x (Int32.ofNat n) ≠ 3 ∨ ((p_zz (Int32.ofNat n) ≠ 3 ∨ p_yy (Int32.ofNat n) ≠ 1) ∧ (p_zz (Int32.ofNat n) ≠ 5 ∨ p_yy (Int32.ofNat n) &&& 1 ≠ 1 ∨ p_yy (Int32.ofNat n) = 1)) := by decide +kernel
theorem p_f5 : ∀ n, n < 256 → p_b7 (Int32.ofNat n) ≠ 1 ∨ (p_x (Int32.ofNat n) = 2 ∧ (p_zz (Int32.ofNat n) = 0 ∨ p_zz (Int32.ofNat n) = 1 ∨ p_zz (Int32.ofNat n) = 2 ∨ p_zz (Int32.ofNat n) = 3)) ∨ (p_x (Int32.ofNat n) ≠ 2 ∧ p_x (Int32.ofNat n) = 1 ∧ (p_zz (Int32.ofNat n) ≠ 0 ∨ p_yy (Int32.ofNat n) ≠ 6) ∧ (p_zz (Int32.ofNat n) ≠ 1 ∨ p_yy (Int32.ofNat n) ≠ 6) ∧ (p_zz (Int32.ofNat n) ≠ 7 ∨ (p_yy (Int32.ofNat n) ≠ 6 ∧ p_yy (Int32.ofNat n) ≠ 7)) ∧ (p_zz (Int32.ofNat n) ≠ 6 ∨ p_yy (Int32.ofNat n) = 0 ∨ p_yy (Int32.ofNat n) = 2 ∨ p_yy (Int32.ofNat n) = 3)) := by decide +kernel
theorem p_f6 : ∀ n, n < 256 → Int32.ofNat n >>> (3 : Int32) = 6 ∨ p_x (Int32.ofNat n) ≠ 0 ∨ p_yy (Int32.ofNat n) ≠ 6 := by decide +kernel
/-- whether there is a form: prefix, octet -/
noncomputable def p_ok (P o : Nat) : Bool := match P with
  | 0 => o != 203 && o != 221 && o != 237 && o != 253
  | 1 => o / 8 != 6
  | 2 => decide (p_b7 (Int32.ofNat o) = 1)
  | 3 => decide (p_hp (Int32.ofNat o) = 1) || decide (p_hh (Int32.ofNat o) = 1)
  | 4 => decide (p_hp (Int32.ofNat o) = 1) || decide (p_hh (Int32.ofNat o) = 1)
  | _ => o % 8 == 6 && o / 8 != 6
/-- what the machine needs of the forms -/
def pFT (σ : fv_S) : Prop := ∀ P o, P < 7 → o < 256 → if p_ok P o = true then ∃ f, f < 900 ∧ fv_gw σ 11 (256 * P + o) = Int32.ofNat f ∧ fv_gw σ 9 f = Int32.ofNat P ∧ fv_gw σ 10 f = Int32.ofNat o ∧ (P = 3 ∨ P = 4 → ((fv_gw σ 5 f = 10 ∨ fv_gw σ 7 f = 10) ↔ p_hp (Int32.ofNat o) = 1)) else fv_gw σ 11 (256 * P + o) = -1
theorem pFT_f {σ0 σ : fv_S} (h : pFX σ0 σ) (g : pFT σ0) : pFT σ := by
  intro P o hP ho
  have := g P o hP ho
  have e : ∀ k, k < 35 → fv_gw σ k = fv_gw σ0 k := fun k hk => h.2.1 k (Or.inl hk)
  rw [e 11 (by omega), e 9 (by omega), e 10 (by omega), e 5 (by omega), e 7 (by omega)]
  exact this
def p_m (τ : fv_S) (a : Int32) : Int32 := fv_ga τ 13 (a &&& 65535)
theorem x_m {σ0 τ0 σ τ : fv_S} {p q : Int32} (h : pRel σ0 τ0 p q σ τ) (a : Int32) : fv_ga σ 35 (a &&& 65535) &&& 255 = p_m τ a ∧ pb (p_m τ a) := g_m h a
theorem p_idx (P o : Nat) (hP : P < 7) (ho : o < 256) : fv_in (Int32.ofNat (256 * P + o)) 1792 ∧ (Int32.ofNat (256 * P + o)).toNatClampNeg = 256 * P + o := by
  have e := p_cl (256 * P + o) (by omega)
  refine ⟨?_, e⟩
  intro c
  rw [e] at c
  rcases c with c | c
  · rw [Int32.lt_iff_toInt_lt, p_ofn _ (by omega)] at c
    simp at c; omega
  · omega
theorem x_at {σ0 τ0 σ τ : fv_S} {p q : Int32} (h : pRel σ0 τ0 p q σ τ) {a : Int32} (wa : pw a) {b n1 n3 : Nat} (hb : p_m τ a = Int32.ofNat b) (bb : b < 256) (h1 : p_m τ (a + 1) = Int32.ofNat n1) (b1 : n1 < 256) (h3 : p_m τ (a + 3) = Int32.ofNat n3) (b3 : n3 < 256) :
    zX2_at a σ = fv_ri (fv_gw σ 11 (if b = 203 then 256 * 1 + n1 else if b = 237 then 256 * 2 + n1 else if b = 221 then (if n1 = 203 then 256 * 5 + n3 else 256 * 3 + n1) else if b = 253 then (if n1 = 203 then 256 * 6 + n3 else 256 * 4 + n1) else 256 * 0 + b)) σ := by
  have ea : fv_ga σ 35 a &&& 255 = Int32.ofNat b := by
    have := (x_m h a).1
    rw [show a &&& 65535 = a from wa] at this
    rw [this, hb]
  have e1 : fv_ga σ 35 ((a + 1) &&& 65535) &&& 255 = Int32.ofNat n1 := by rw [(x_m h (a + 1)).1, h1]
  have e3 : fv_ga σ 35 ((a + 3) &&& 65535) &&& 255 = Int32.ofNat n3 := by rw [(x_m h (a + 3)).1, h3]
  have lit : ∀ n m : Nat, n < 256 → m < 256 → (Int32.ofNat n = Int32.ofNat m ↔ n = m) := by
    intro n m hn hm
    constructor
    · intro e; have := congrArg Int32.toInt e; rw [p_ofn n (by omega), p_ofn m (by omega)] at this; omega
    · intro e; rw [e]
  have i : ∀ P o, P < 7 → o < 256 → (if fv_in (Int32.ofNat (256 * P + o)) 1792 then fv_ri (fv_ga σ 11 (Int32.ofNat (256 * P + o))) σ else none) = fv_ri (fv_gw σ 11 (256 * P + o)) σ := by
    intro P o hP ho
    rw [if_pos (p_idx P o hP ho).1]
    show fv_ri (fv_gw σ 11 (Int32.ofNat (256 * P + o)).toNatClampNeg) σ = _
    rw [(p_idx P o hP ho).2]
  have ad : ∀ c o : Nat, (Int32.ofNat c) + Int32.ofNat o = Int32.ofNat (c + o) := fun c o => (Int32.ofNat_add c o).symm
  unfold zX2_at
  rw [if_pos (p_in65536 wa), if_pos (p_in16 (a + 1)), ea, e1]
  by_cases c1 : b = 203
  · subst c1
    rw [if_neg (by decide), if_pos rfl, show (256 : Int32) = Int32.ofNat (256 * 1) from rfl, ad, i 1 n1 (by omega) b1]
  · rw [if_pos (show ¬ Int32.ofNat b = 203 from fun e => c1 ((lit b 203 bb (by omega)).1 e)), if_neg c1]
    by_cases c2 : b = 237
    · subst c2
      rw [if_neg (by decide), if_pos rfl, show (512 : Int32) = Int32.ofNat (256 * 2) from rfl, ad, i 2 n1 (by omega) b1]
    · rw [if_pos (show ¬ Int32.ofNat b = 237 from fun e => c2 ((lit b 237 bb (by omega)).1 e)), if_neg c2]
      by_cases c3 : b = 221
      · subst c3
        rw [if_pos (show Int32.ofNat 221 = 221 from rfl), if_pos rfl]
        unfold zX2_at_81 zX2_at_93
        rw [if_neg (by decide), if_pos (p_in16 (a + 3)), e3]
        by_cases c5 : n1 = 203
        · subst c5
          rw [if_neg (by decide), if_pos rfl, show (256 : Int32) * ((5 : Int32) + 0) = Int32.ofNat (256 * 5) from rfl, ad, i 5 n3 (by omega) b3]
        · rw [if_pos (show ¬ Int32.ofNat n1 = 203 from fun e => c5 ((lit n1 203 b1 (by omega)).1 e)), if_neg c5, show (256 : Int32) * ((3 : Int32) + 0) = Int32.ofNat (256 * 3) from rfl, ad, i 3 n1 (by omega) b1]
      · rw [if_neg (show ¬ Int32.ofNat b = 221 from fun e => c3 ((lit b 221 bb (by omega)).1 e)), if_neg c3]
        by_cases c4 : b = 253
        · subst c4
          rw [if_pos (show Int32.ofNat 253 = 253 from rfl), if_pos rfl]
          unfold zX2_at_81 zX2_at_93
          rw [if_pos (by decide), if_pos (p_in16 (a + 3)), e3]
          by_cases c5 : n1 = 203
          · subst c5
            rw [if_neg (by decide), if_pos rfl, show (256 : Int32) * ((5 : Int32) + 1) = Int32.ofNat (256 * 6) from rfl, ad, i 6 n3 (by omega) b3]
          · rw [if_pos (show ¬ Int32.ofNat n1 = 203 from fun e => c5 ((lit n1 203 b1 (by omega)).1 e)), if_neg c5, show (256 : Int32) * ((3 : Int32) + 1) = Int32.ofNat (256 * 4) from rfl, ad, i 4 n1 (by omega) b1]
        · rw [if_neg (show ¬ Int32.ofNat b = 253 from fun e => c4 ((lit b 253 bb (by omega)).1 e)), if_neg c4, show Int32.ofNat b = Int32.ofNat (256 * 0 + b) by simp, i 0 b (by omega) bb]
