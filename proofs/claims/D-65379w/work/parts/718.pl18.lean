set_option maxRecDepth 100000
set_option maxHeartbeats 4000000
/-! The plain law: runs; clearing. -/
theorem pFO_t {a b c : fv_S} (h : pFO a b) (g : pFO b c) : pFO a c := ⟨fun k hk => (g.1 k hk).trans (h.1 k hk), fun k hk hj => (g.2.1 k hk hj).trans (h.2.1 k hk hj), g.2.2.trans h.2.2⟩
theorem pOp_t {σ τ σ1 τ1 σ2 τ2 : fv_S} (h : pOp σ τ σ1 τ1) (g : pOp σ1 τ1 σ2 τ2) : pOp σ τ σ2 τ2 := ⟨g.1, pFX_t h.2.1 g.2.1, pFO_t h.2.2 g.2.2⟩
theorem p_leN (a b : Nat) (ha : a < 2147483648) (hb : b < 2147483648) : Int32.ofNat a ≤ Int32.ofNat b ↔ a ≤ b := by
  rw [p_le, p_ofn a ha, p_ofn b hb]; omega
theorem p_ltN (a b : Nat) (ha : a < 2147483648) (hb : b < 2147483648) : Int32.ofNat a < Int32.ofNat b ↔ a < b := by
  rw [p_lt, p_ofn a ha, p_ofn b hb]; omega
theorem p_sucN (a : Nat) : Int32.ofNat a + 1 = Int32.ofNat (a + 1) := (Int32.ofNat_add a 1).symm
theorem c_loop (n X : Nat) (hX : X ≤ 20000) : ∀ (d k m m' : Nat) (σ τ : fv_S), X - k = d → k ≤ X → d + 2 ≤ m → d + 1 ≤ m' → pMQ σ τ → pFT σ → ∃ w σ' τ', zX0_run_19 (n + 10) m (Int32.ofNat X) (Int32.ofNat k) 1 σ = fv_ri w σ' ∧ zX8_run_16 (n + 10) m' (Int32.ofNat X) (Int32.ofNat k) τ = fv_ri w τ' ∧ pOp σ τ σ' τ' := by
  intro d
  induction d with
  | zero =>
    intro k m m' σ τ e hk hm hm' h ft
    obtain ⟨r, hr, hh⟩ := pMQ_o h
    obtain ⟨m, rfl⟩ : ∃ j, m = j + 1 := ⟨m - 1, by omega⟩
    obtain ⟨m', rfl⟩ : ∃ j, m' = j + 1 := ⟨m' - 1, by omega⟩
    refine ⟨Int32.ofNat k, σ, τ, ?_, ?_, pOp_of hr hh⟩
    · show zX0_run_19_b _ _ _ _ _ _ = _
      unfold zX0_run_19_b; rw [if_pos ((p_leN X k (by omega) (by omega)).2 (by omega))]
    · show zX8_run_16_b _ _ _ _ _ = _
      unfold zX8_run_16_b; rw [if_pos ((p_leN X k (by omega) (by omega)).2 (by omega))]
  | succ d ih =>
    intro k m m' σ τ e hk hm hm' h ft
    obtain ⟨m, rfl⟩ : ∃ j, m = j + 2 := ⟨m - 2, by omega⟩
    obtain ⟨m', rfl⟩ : ∃ j, m' = j + 1 := ⟨m' - 1, by omega⟩
    have nle : ¬ Int32.ofNat X ≤ Int32.ofNat k := fun c => by have := (p_leN X k (by omega) (by omega)).1 c; omega
    obtain ⟨w, σ1, τ1, x, y, q, fx, fo⟩ := c_stp n h ft
    have stop : w = 0 ∨ w = 3 → ∃ w' σ' τ', zX0_run_19 (n + 10) (m + 2) (Int32.ofNat X) (Int32.ofNat k) 1 σ = fv_ri w' σ' ∧ zX8_run_16 (n + 10) (m' + 1) (Int32.ofNat X) (Int32.ofNat k) τ = fv_ri w' τ' ∧ pOp σ τ σ' τ' := by
      intro hw
      refine ⟨Int32.ofNat (k + 1), σ1, τ1, ?_, ?_, q, fx, fo⟩
      · show zX0_run_19_b _ _ _ _ _ _ = _
        unfold zX0_run_19_b zX0_run_52
        rw [if_neg nle, if_neg (by decide), x, fv_bi_ri, p_sucN]
        have last : zX0_run_19 (n + 10) (m + 1) (Int32.ofNat X) (Int32.ofNat (k + 1)) 0 σ1 = fv_ri (Int32.ofNat (k + 1)) σ1 := by
          show zX0_run_19_b _ _ _ _ _ _ = _
          unfold zX0_run_19_b
          by_cases c : Int32.ofNat X ≤ Int32.ofNat (k + 1)
          · rw [if_pos c]
          · rw [if_neg c, if_pos rfl]
        rcases hw with rfl | rfl
        · rw [if_pos rfl, last]
        · rw [if_neg (by decide), if_pos rfl, last]
      · show zX8_run_16_b _ _ _ _ _ = _
        unfold zX8_run_16_b
        rw [if_neg nle, y, fv_bi_ri, p_sucN]
        rcases hw with rfl | rfl
        · rw [if_neg (by decide), if_neg (by decide)]
        · rw [if_pos rfl]
    by_cases w0 : w = 0
    · exact stop (Or.inl w0)
    · by_cases w3 : w = 3
      · exact stop (Or.inr w3)
      · obtain ⟨w', σ', τ', x2, y2, q2⟩ := ih (k + 1) (m + 1) m' σ1 τ1 (by omega) (by omega) (by omega) (by omega) q (pFT_f fx ft)
        refine ⟨w', σ', τ', ?_, ?_, pOp_t ⟨q, fx, fo⟩ q2⟩
        · show zX0_run_19_b _ _ _ _ _ _ = _
          unfold zX0_run_19_b
          rw [if_neg nle, if_neg (by decide), x, fv_bi_ri, if_neg w0, if_neg w3, p_sucN]; exact x2
        · show zX8_run_16_b _ _ _ _ _ = _
          unfold zX8_run_16_b
          rw [if_neg nle, y, fv_bi_ri, if_neg w3, if_pos w0, p_sucN]; exact y2
theorem c_run {σ τ : fv_S} (h : pMQ σ τ) (ft : pFT σ) (x : Int32) : ∃ w σ' τ', zX0_run 20020 x σ = fv_ri w σ' ∧ zX8_run 20020 x τ = fv_ri w τ' ∧ pOp σ τ σ' τ' := by
  obtain ⟨r, hr, hh⟩ := pMQ_o h
  have no := pOp_of hr hh
  unfold zX0_run zX8_run
  rw [x_isIn x (lo := 0) (hi := 20000) rfl rfl, fv_bi_ri]
  by_cases c0 : 0 ≤ x.toInt
  · rw [if_neg (show ¬ x < 0 by rw [p_lt]; show ¬ x.toInt < 0; omega)]
    by_cases c1 : x.toInt ≤ 20000
    · rw [if_pos (show p_R 0 20000 x from ⟨c0, c1⟩), if_pos (by decide), if_pos (show x ≤ 20000 by rw [p_le]; exact c1)]
      obtain ⟨X, hX, rfl⟩ := p_rng 20001 (by omega) c0 (by omega)
      exact c_loop 20010 X (by omega) X 0 20020 20020 σ τ (by omega) (by omega) (by omega) (by omega) h ft
    · rw [if_neg (show ¬ p_R 0 20000 x from fun e => c1 e.2), if_neg (by decide), if_neg (show ¬ x ≤ 20000 by rw [p_le]; exact c1)]
      exact ⟨-2, _, _, rfl, rfl, no⟩
  · rw [if_neg (show ¬ p_R 0 20000 x from fun e => c0 e.1), if_neg (by decide), if_pos (show x < 0 by rw [p_lt]; show x.toInt < 0; omega)]
    exact ⟨-2, _, _, rfl, rfl, no⟩
theorem c_step0 {σ τ : fv_S} (h : pMQ σ τ) (ft : pFT σ) : ∃ w σ' τ', zX0_step 20020 σ = fv_ri w σ' ∧ zX8_step 20020 τ = fv_ri w τ' ∧ pOp σ τ σ' τ' := by
  obtain ⟨w, σ', τ', x, y, q⟩ := c_stp 20010 h ft
  refine ⟨w, σ', τ', ?_, y, q⟩
  unfold zX0_step; rw [show zX7_step 20020 σ = fv_ri w σ' from x, fv_bi_ri]
/-- an array cleared from k on -/
def p_z (f : Nat → Int32) (k n : Nat) : Nat → Int32 := fun i => if k ≤ i ∧ i < n then 0 else f i
theorem p_z0 (f : Nat → Int32) (k n : Nat) (h : n ≤ k) : p_z f k n = f := by
  funext i; unfold p_z; rw [if_neg (by omega)]
theorem p_zs (f : Nat → Int32) (k n : Nat) (h : k < n) : p_z (upd f k 0) (k + 1) n = p_z f k n := by
  funext i; unfold p_z upd
  by_cases e : i = k
  · subst e; rw [if_neg (by omega), if_pos rfl, if_pos (by omega)]
  · by_cases c : k + 1 ≤ i ∧ i < n
    · rw [if_pos c, if_pos (by omega)]
    · rw [if_neg c, if_neg e, if_neg (by omega)]
theorem s_sw_id (σ : fv_S) (k : Nat) : fv_sw σ k (fv_gw σ k) = σ := by
  unfold fv_sw
  refine Prod.ext rfl (Prod.ext rfl (Prod.ext (funext fun j => ?_) rfl))
  show va_up σ.2.2.1 k (σ.2.2.1 k) j = σ.2.2.1 j
  unfold va_up; by_cases e : j = k
  · rw [if_pos e, e]
  · rw [if_neg e]
theorem s_sw_sw (σ : fv_S) (k : Nat) (f g : Nat → Int32) : fv_sw (fv_sw σ k f) k g = fv_sw σ k g := by
  unfold fv_sw
  refine Prod.ext rfl (Prod.ext rfl (Prod.ext (funext fun j => ?_) rfl))
  show va_up (va_up σ.2.2.1 k f) k g j = va_up σ.2.2.1 k g j
  unfold va_up; by_cases e : j = k
  · rw [if_pos e, if_pos e]
  · rw [if_neg e, if_neg e, if_neg e]
theorem s_gw_sw (σ : fv_S) (k : Nat) (f : Nat → Int32) : fv_gw (fv_sw σ k f) k = f := if_pos rfl
theorem p_inN (k n : Nat) (h : k < n) (hn : n ≤ 65536) : fv_in (Int32.ofNat k) n ∧ (Int32.ofNat k).toNatClampNeg = k := by
  have c := p_cl k (by omega)
  refine ⟨?_, c⟩
  intro e
  rw [c] at e
  rcases e with e | e
  · rw [p_lt, p_ofn k (by omega)] at e; simp at e; omega
  · omega
theorem x_clr2 (N : Nat) : ∀ (d k m : Nat) (σ : fv_S), 65536 - k = d → k ≤ 65536 → d + 1 ≤ m → zX7_clear_2 N m (Int32.ofNat k) σ = zX7_clear_23 N N 0 (fv_sw σ 35 (p_z (fv_gw σ 35) k 65536)) := by
  intro d
  induction d with
  | zero =>
    intro k m σ e hk hm
    obtain ⟨m, rfl⟩ : ∃ j, m = j + 1 := ⟨m - 1, by omega⟩
    show zX7_clear_2_b _ _ _ _ = _
    unfold zX7_clear_2_b
    rw [if_pos (show (65536 : Int32) ≤ Int32.ofNat k from (p_leN 65536 k (by omega) (by omega)).2 (by omega)), p_z0 _ _ _ (by omega), s_sw_id]
  | succ d ih =>
    intro k m σ e hk hm
    obtain ⟨m, rfl⟩ : ∃ j, m = j + 1 := ⟨m - 1, by omega⟩
    obtain ⟨i1, i2⟩ := p_inN k 65536 (by omega) (by omega)
    show zX7_clear_2_b _ _ _ _ = _
    unfold zX7_clear_2_b
    rw [if_neg (show ¬ (65536 : Int32) ≤ Int32.ofNat k from fun c => by have := (p_leN 65536 k (by omega) (by omega)).1 c; omega), if_pos i1, p_sucN, ih (k + 1) m _ (by omega) (by omega) (by omega)]
    congr 1
    unfold fv_sa
    rw [i2, s_sw_sw, s_gw_sw]
    exact congrArg (fv_sw σ 35) (p_zs _ _ _ (by omega))
theorem m_clr2 (N : Nat) : ∀ (d k m : Nat) (σ : fv_S), 65536 - k = d → k ≤ 65536 → d + 1 ≤ m → zX8_clear_2 N m (Int32.ofNat k) σ = zX8_clear_23 N N 0 (fv_sw σ 13 (p_z (fv_gw σ 13) k 65536)) := by
  intro d
  induction d with
  | zero =>
    intro k m σ e hk hm
    obtain ⟨m, rfl⟩ : ∃ j, m = j + 1 := ⟨m - 1, by omega⟩
    show zX8_clear_2_b _ _ _ _ = _
    unfold zX8_clear_2_b
    rw [if_pos (show (65536 : Int32) ≤ Int32.ofNat k from (p_leN 65536 k (by omega) (by omega)).2 (by omega)), p_z0 _ _ _ (by omega), s_sw_id]
  | succ d ih =>
    intro k m σ e hk hm
    obtain ⟨m, rfl⟩ : ∃ j, m = j + 1 := ⟨m - 1, by omega⟩
    obtain ⟨i1, i2⟩ := p_inN k 65536 (by omega) (by omega)
    show zX8_clear_2_b _ _ _ _ = _
    unfold zX8_clear_2_b
    rw [if_neg (show ¬ (65536 : Int32) ≤ Int32.ofNat k from fun c => by have := (p_leN 65536 k (by omega) (by omega)).1 c; omega), if_pos i1, p_sucN, ih (k + 1) m _ (by omega) (by omega) (by omega)]
    congr 1
    unfold fv_sa
    rw [i2, s_sw_sw, s_gw_sw]
    exact congrArg (fv_sw σ 13) (p_zs _ _ _ (by omega))
theorem s_sw_c (σ : fv_S) (a b : Nat) (f g : Nat → Int32) (h : a ≠ b) : fv_sw (fv_sw σ a f) b g = fv_sw (fv_sw σ b g) a f := by
  unfold fv_sw
  refine Prod.ext rfl (Prod.ext rfl (Prod.ext (funext fun j => ?_) rfl))
  show va_up (va_up σ.2.2.1 a f) b g j = va_up (va_up σ.2.2.1 b g) a f j
  unfold va_up; by_cases e : j = b
  · by_cases e2 : j = a
    · exact absurd (e2.symm.trans e) h
    · rw [if_pos e, if_neg e2, if_pos e]
  · rw [if_neg e, if_neg e]
theorem s_gw_sw2 (σ : fv_S) (a b : Nat) (f : Nat → Int32) (h : b ≠ a) : fv_gw (fv_sw σ a f) b = fv_gw σ b := if_neg h
theorem x_clr3 (N : Nat) : ∀ (d k m : Nat) (σ : fv_S), 256 - k = d → k ≤ 256 → d + 1 ≤ m → zX7_clear_101 N m (Int32.ofNat k) σ = fv_rv (fv_si (fv_si (fv_si (fv_si (fv_sl (fv_sw (fv_sw σ 39 (p_z (fv_gw σ 39) k 256)) 40 (p_z (fv_gw σ 40) k 256)) 4366 0) 4367 0) 4369 0) 4370 0) 4368 0) := by
  intro d
  induction d with
  | zero =>
    intro k m σ e hk hm
    obtain ⟨m, rfl⟩ : ∃ j, m = j + 1 := ⟨m - 1, by omega⟩
    show zX7_clear_101_b _ _ _ _ = _
    unfold zX7_clear_101_b
    rw [if_pos (show (256 : Int32) ≤ Int32.ofNat k from (p_leN 256 k (by omega) (by omega)).2 (by omega)), p_z0 _ _ _ (by omega), p_z0 _ _ _ (by omega), s_sw_id, s_sw_id]
  | succ d ih =>
    intro k m σ e hk hm
    obtain ⟨m, rfl⟩ : ∃ j, m = j + 1 := ⟨m - 1, by omega⟩
    obtain ⟨i1, i2⟩ := p_inN k 256 (by omega) (by omega)
    show zX7_clear_101_b _ _ _ _ = _
    unfold zX7_clear_101_b
    rw [if_neg (show ¬ (256 : Int32) ≤ Int32.ofNat k from fun c => by have := (p_leN 256 k (by omega) (by omega)).1 c; omega), if_pos i1, if_pos i1, p_sucN, ih (k + 1) m _ (by omega) (by omega) (by omega)]
    have : fv_sw (fv_sw (fv_sa (fv_sa σ 39 (Int32.ofNat k) 0) 40 (Int32.ofNat k) 0) 39 (p_z (fv_gw (fv_sa (fv_sa σ 39 (Int32.ofNat k) 0) 40 (Int32.ofNat k) 0) 39) (k + 1) 256)) 40 (p_z (fv_gw (fv_sa (fv_sa σ 39 (Int32.ofNat k) 0) 40 (Int32.ofNat k) 0) 40) (k + 1) 256) = fv_sw (fv_sw σ 39 (p_z (fv_gw σ 39) k 256)) 40 (p_z (fv_gw σ 40) k 256) := by
      unfold fv_sa
      rw [i2]
      rw [s_gw_sw, s_gw_sw2 _ 40 39 _ (by decide), s_gw_sw, s_sw_c _ 40 39 _ _ (by decide), s_sw_sw, s_sw_sw]
      rw [show σ.2.2.1 39 = fv_gw σ 39 from rfl, p_zs _ _ _ (by omega)]
      congr 1
      exact p_zs _ _ _ (by omega)
    rw [this]
theorem m_clr3 (N : Nat) : ∀ (d k m : Nat) (σ : fv_S), 256 - k = d → k ≤ 256 → d + 1 ≤ m → ∃ τ1, τ1 = fv_sw (fv_sw σ 26 (p_z (fv_gw σ 26) k 256)) 27 (p_z (fv_gw σ 27) k 256) ∧ zX8_clear_51 N m (Int32.ofNat k) σ = fv_rv (fv_sl (fv_si (fv_si (fv_si (fv_si (fv_si (fv_si (fv_si (fv_si (fv_sa (fv_sa (fv_si (fv_si τ1 72 0) 73 0) 25 1 0) 25 2 0) 75 65535) 76 0) 77 0) 78 0) 79 0) 82 0) 83 0) 85 0) 86 0) := by
  intro d
  induction d with
  | zero =>
    intro k m σ e hk hm
    obtain ⟨m, rfl⟩ : ∃ j, m = j + 1 := ⟨m - 1, by omega⟩
    refine ⟨_, rfl, ?_⟩
    show zX8_clear_51_b _ _ _ _ = _
    unfold zX8_clear_51_b
    rw [if_pos (show (256 : Int32) ≤ Int32.ofNat k from (p_leN 256 k (by omega) (by omega)).2 (by omega)), p_z0 _ _ _ (by omega), p_z0 _ _ _ (by omega), s_sw_id, s_sw_id]
  | succ d ih =>
    intro k m σ e hk hm
    obtain ⟨m, rfl⟩ : ∃ j, m = j + 1 := ⟨m - 1, by omega⟩
    obtain ⟨i1, i2⟩ := p_inN k 256 (by omega) (by omega)
    obtain ⟨τ1, e1, h1⟩ := ih (k + 1) m (fv_sa (fv_sa σ 26 (Int32.ofNat k) 0) 27 (Int32.ofNat k) 0) (by omega) (by omega) (by omega)
    refine ⟨τ1, ?_, ?_⟩
    · rw [e1]
      unfold fv_sa
      rw [i2]
      rw [s_gw_sw, s_gw_sw2 _ 27 26 _ (by decide), s_gw_sw, s_sw_c _ 27 26 _ _ (by decide), s_sw_sw, s_sw_sw]
      rw [show σ.2.2.1 26 = fv_gw σ 26 from rfl, p_zs _ _ _ (by omega)]
      congr 1
      exact p_zs _ _ _ (by omega)
    · show zX8_clear_51_b _ _ _ _ = _
      unfold zX8_clear_51_b
      rw [if_neg (show ¬ (256 : Int32) ≤ Int32.ofNat k from fun c => by have := (p_leN 256 k (by omega) (by omega)).1 c; omega), if_pos i1, if_pos i1, p_sucN, h1]
