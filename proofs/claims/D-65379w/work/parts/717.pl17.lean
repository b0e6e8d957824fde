set_option maxRecDepth 100000
set_option maxHeartbeats 4000000
/-! The plain law: registers, ports, memory, runs. -/
def pOp (σ τ σ' τ' : fv_S) : Prop := pMQ σ' τ' ∧ pFX σ σ' ∧ pFO τ τ'
theorem pOp_of {σ τ σ' τ' : fv_S} {r : Int32} (hr : pw r) (h : pRel σ τ r r σ' τ') : pOp σ τ σ' τ' := ⟨⟨_, _, r, hr, h⟩, g_fx h, pFO_of (pSF_r τ) (g_fm h)⟩
theorem pMQ_o {σ τ : fv_S} (h : pMQ σ τ) : ∃ r, pw r ∧ pRel σ τ r r σ τ := by
  obtain ⟨_, _, r, hr, h⟩ := h
  exact ⟨r, hr, e_scr h (pSF_r τ)⟩
theorem p_i64 (x : Int32) : (Int32.toInt64 x).toInt = x.toInt := Int32.toInt_toInt64 x
abbrev p_R (lo hi : Int) (x : Int32) : Prop := lo ≤ x.toInt ∧ x.toInt ≤ hi
theorem x_isIn (x : Int32) {a b : Int64} {lo hi : Int} (ha : a.toInt = lo) (hb : b.toInt = hi) (σ : fv_S) : zX0_isIn (Int32.toInt64 x) a b σ = fv_ri (if p_R lo hi x then 1 else 0) σ := by
  subst ha hb
  have lt : ∀ u v : Int64, lg_cmp u v < 0 ↔ u.toInt < v.toInt := by
    intro u v
    unfold lg_cmp
    by_cases c : u > v
    · rw [if_pos c]; have := Int64.lt_iff_toInt_lt.1 c; constructor
      · intro e; exact absurd e (by decide)
      · intro e; omega
    · rw [if_neg c]
      have c' : ¬ v.toInt < u.toInt := fun e => c (Int64.lt_iff_toInt_lt.2 e)
      by_cases d : u = v
      · rw [if_pos d]; subst d; constructor
        · intro e; exact absurd e (by decide)
        · intro e; omega
      · rw [if_neg d]; constructor
        · intro _
          have : u.toInt ≠ v.toInt := fun e => d (Int64.toInt_inj.1 e)
          omega
        · intro _; decide
  have gt : ∀ u v : Int64, 0 < lg_cmp u v ↔ v.toInt < u.toInt := by
    intro u v
    unfold lg_cmp
    by_cases c : u > v
    · rw [if_pos c]; have := Int64.lt_iff_toInt_lt.1 c; constructor
      · intro _; exact this
      · intro _; decide
    · rw [if_neg c]
      have c' : ¬ v.toInt < u.toInt := fun e => c (Int64.lt_iff_toInt_lt.2 e)
      by_cases d : u = v
      · rw [if_pos d]; constructor
        · intro e; exact absurd e (by decide)
        · intro e; exact absurd e c'
      · rw [if_neg d]; constructor
        · intro e; exact absurd e (by decide)
        · intro e; exact absurd e c'
  unfold zX0_isIn
  by_cases c1 : a.toInt ≤ x.toInt
  · have n1 : ¬ lg_cmp (Int32.toInt64 x) a < 0 := fun e => by have := (lt _ _).1 e; rw [p_i64] at this; omega
    rw [if_neg n1]
    by_cases c2 : x.toInt ≤ b.toInt
    · rw [if_pos (show p_R a.toInt b.toInt x from ⟨c1, c2⟩), if_neg (show ¬ (0 : Int32) < lg_cmp (Int32.toInt64 x) b from fun e => by have := (gt _ _).1 e; rw [p_i64] at this; omega)]
    · rw [if_neg (show ¬ p_R a.toInt b.toInt x from fun e => c2 e.2), if_pos ((gt _ _).2 (by rw [p_i64]; omega))]
  · rw [if_neg (show ¬ p_R a.toInt b.toInt x from fun e => c1 e.1), if_pos ((lt _ _).2 (by rw [p_i64]; omega))]
theorem p_rng {x : Int32} (m : Nat) (hm : m ≤ 65536) (h0 : 0 ≤ x.toInt) (h1 : x.toInt < m) : ∃ n, n < m ∧ x = Int32.ofNat n := by
  refine ⟨x.toInt.toNat, by omega, ?_⟩
  apply Int32.toInt_inj.1
  rw [p_ofn _ (by omega)]; omega
theorem pw_ofN (n : Nat) (h : n < 65536) : pw (Int32.ofNat n) := by
  unfold pw
  apply Int32.toBitVec_inj.1
  apply BitVec.eq_of_toNat_eq
  rw [p_and16]
  have : (Int32.ofNat n).toBitVec.toNat = n := by
    show (BitVec.ofNat 32 n).toNat = n
    simp; omega
  rw [this]; omega
theorem pw_rng {x : Int32} (h0 : 0 ≤ x.toInt) (h1 : x.toInt ≤ 65535) : pw x := by
  obtain ⟨n, hn, rfl⟩ := p_rng 65536 (by omega) h0 (by omega)
  exact pw_ofN n hn
theorem pb_rng {x : Int32} (h0 : 0 ≤ x.toInt) (h1 : x.toInt ≤ 255) : pb x := by
  obtain ⟨n, hn, rfl⟩ := p_rng 256 (by omega) h0 (by omega)
  exact p_ofN n hn
theorem p_lt (x y : Int32) : x < y ↔ x.toInt < y.toInt := Int32.lt_iff_toInt_lt
theorem p_le (x y : Int32) : x ≤ y ↔ x.toInt ≤ y.toInt := Int32.le_iff_toInt_le
theorem c_octet {σ τ : fv_S} (h : pMQ σ τ) (a : Int32) : ∃ w, zX0_octet a σ = fv_ri w σ ∧ zX8_octet a τ = fv_ri w τ := by
  obtain ⟨r, hr, h⟩ := pMQ_o h
  unfold zX0_octet zX8_octet
  rw [x_isIn a (lo := 0) (hi := 65535) rfl rfl, fv_bi_ri]
  by_cases c0 : 0 ≤ a.toInt
  · rw [if_neg (show ¬ a < 0 by rw [p_lt]; show ¬ a.toInt < 0; omega)]
    by_cases c1 : a.toInt ≤ 65535
    · have wa := pw_rng c0 c1
      rw [if_pos (show p_R 0 65535 a from ⟨c0, c1⟩), if_neg (by decide), if_neg (show ¬ (65536 : Int32) ≤ a by rw [p_le]; show ¬ (65536 : Int) ≤ a.toInt; omega), if_pos (p_in65536 wa)]
      refine ⟨fv_ga τ 13 a, ?_, rfl⟩
      have := (g_m h a).1
      rw [x_get, this, fv_bi_ri, show a &&& 65535 = a from wa]
    · rw [if_neg (show ¬ p_R 0 65535 a from fun e => c1 e.2), if_pos rfl, if_pos (show (65536 : Int32) ≤ a by rw [p_le]; show (65536 : Int) ≤ a.toInt; omega)]
      exact ⟨-1, rfl, rfl⟩
  · rw [if_neg (show ¬ p_R 0 65535 a from fun e => c0 e.1), if_pos rfl, if_pos (show a < 0 by rw [p_lt]; show a.toInt < 0; omega)]
    exact ⟨-1, rfl, rfl⟩
theorem c_put {σ τ : fv_S} (h : pMQ σ τ) (a v : Int32) : ∃ w σ' τ', zX0_put a v σ = fv_ri w σ' ∧ zX8_put a v τ = fv_ri w τ' ∧ pOp σ τ σ' τ' := by
  obtain ⟨r, hr, h⟩ := pMQ_o h
  have no := pOp_of hr h
  unfold zX0_put zX8_put
  rw [x_isIn a (lo := 0) (hi := 65535) rfl rfl, fv_bi_ri]
  by_cases c0 : 0 ≤ a.toInt
  · rw [if_neg (show ¬ a < 0 by rw [p_lt]; show ¬ a.toInt < 0; omega)]
    by_cases c1 : a.toInt ≤ 65535
    · have wa := pw_rng c0 c1
      rw [if_pos (show p_R 0 65535 a from ⟨c0, c1⟩), if_pos (by decide), if_pos (show a ≤ 65535 by rw [p_le]; exact c1), x_isIn v (lo := 0) (hi := 255) rfl rfl, fv_bi_ri]
      by_cases d0 : 0 ≤ v.toInt
      · rw [if_neg (show ¬ v < 0 by rw [p_lt]; show ¬ v.toInt < 0; omega)]
        by_cases d1 : v.toInt ≤ 255
        · have wv := pb_rng d0 d1
          rw [if_pos (show p_R 0 255 v from ⟨d0, d1⟩), if_pos (by decide), if_pos (show v ≤ 255 by rw [p_le]; exact d1), if_pos (p_in65536 wa), if_pos (p_in65536 wa)]
          have e := e_m h a v
          rw [show v &&& 255 = v from wv] at e
          refine ⟨fv_ga τ 13 a, _, _, ?_, rfl, pOp_of hr e⟩
          have := (g_m h a).1
          rw [x_get, this, fv_bi_ri, x_put, fv_bv_rv, show a &&& 65535 = a from wa]
        · rw [if_neg (show ¬ p_R 0 255 v from fun e => d1 e.2), if_neg (by decide), if_neg (show ¬ v ≤ 255 by rw [p_le]; exact d1)]
          exact ⟨-2, _, _, rfl, rfl, no⟩
      · rw [if_neg (show ¬ p_R 0 255 v from fun e => d0 e.1), if_neg (by decide), if_pos (show v < 0 by rw [p_lt]; show v.toInt < 0; omega)]
        exact ⟨-2, _, _, rfl, rfl, no⟩
    · rw [if_neg (show ¬ p_R 0 65535 a from fun e => c1 e.2), if_neg (by decide), if_neg (show ¬ a ≤ 65535 by rw [p_le]; exact c1)]
      exact ⟨-1, _, _, rfl, rfl, no⟩
  · rw [if_neg (show ¬ p_R 0 65535 a from fun e => c0 e.1), if_neg (by decide), if_pos (show a < 0 by rw [p_lt]; show a.toInt < 0; omega)]
    exact ⟨-1, _, _, rfl, rfl, no⟩
theorem c_port {σ τ : fv_S} (h : pMQ σ τ) (a v : Int32) : ∃ w σ' τ', zX0_port a v σ = fv_ri w σ' ∧ zX8_port a v τ = fv_ri w τ' ∧ pOp σ τ σ' τ' := by
  obtain ⟨r, hr, h⟩ := pMQ_o h
  have no := pOp_of hr h
  unfold zX0_port zX8_port
  rw [x_isIn a (lo := 0) (hi := 255) rfl rfl, fv_bi_ri]
  by_cases c0 : 0 ≤ a.toInt
  · rw [if_neg (show ¬ a < 0 by rw [p_lt]; show ¬ a.toInt < 0; omega)]
    by_cases c1 : a.toInt ≤ 255
    · have wa := pb_rng c0 c1
      rw [if_pos (show p_R 0 255 a from ⟨c0, c1⟩), if_pos (by decide), if_pos (show a ≤ 255 by rw [p_le]; exact c1), x_isIn v (lo := 0) (hi := 255) rfl rfl, fv_bi_ri]
      by_cases d0 : 0 ≤ v.toInt
      · rw [if_neg (show ¬ v < 0 by rw [p_lt]; show ¬ v.toInt < 0; omega)]
        by_cases d1 : v.toInt ≤ 255
        · have wv := pb_rng d0 d1
          rw [if_pos (show p_R 0 255 v from ⟨d0, d1⟩), if_pos (by decide), if_pos (show v ≤ 255 by rw [p_le]; exact d1), if_pos (p_in256 wa), if_pos (p_in256 wa), if_pos (p_in256 wa), if_pos (p_in256 wa)]
          refine ⟨fv_ga τ 26 a, _, _, ?_, rfl, pOp_of hr (e_in h a wv)⟩
          rw [(g_in h a wa).1]
        · rw [if_neg (show ¬ p_R 0 255 v from fun e => d1 e.2), if_neg (by decide), if_neg (show ¬ v ≤ 255 by rw [p_le]; exact d1)]
          exact ⟨-2, _, _, rfl, rfl, no⟩
      · rw [if_neg (show ¬ p_R 0 255 v from fun e => d0 e.1), if_neg (by decide), if_pos (show v < 0 by rw [p_lt]; show v.toInt < 0; omega)]
        exact ⟨-2, _, _, rfl, rfl, no⟩
    · rw [if_neg (show ¬ p_R 0 255 a from fun e => c1 e.2), if_neg (by decide), if_neg (show ¬ a ≤ 255 by rw [p_le]; exact c1)]
      exact ⟨-1, _, _, rfl, rfl, no⟩
  · rw [if_neg (show ¬ p_R 0 255 a from fun e => c0 e.1), if_neg (by decide), if_pos (show a < 0 by rw [p_lt]; show a.toInt < 0; omega)]
    exact ⟨-1, _, _, rfl, rfl, no⟩
theorem c_outp {σ τ : fv_S} (h : pMQ σ τ) (a : Int32) : ∃ w, zX0_out a σ = fv_ri w σ ∧ zX8_out a τ = fv_ri w τ := by
  obtain ⟨r, hr, h⟩ := pMQ_o h
  unfold zX0_out zX8_out
  rw [x_isIn a (lo := 0) (hi := 255) rfl rfl, fv_bi_ri]
  by_cases c0 : 0 ≤ a.toInt
  · rw [if_neg (show ¬ a < 0 by rw [p_lt]; show ¬ a.toInt < 0; omega)]
    by_cases c1 : a.toInt ≤ 255
    · have wa := pb_rng c0 c1
      rw [if_pos (show p_R 0 255 a from ⟨c0, c1⟩), if_neg (by decide), if_neg (show ¬ (256 : Int32) ≤ a by rw [p_le]; show ¬ (256 : Int) ≤ a.toInt; omega), if_pos (p_in256 wa), if_pos (p_in256 wa)]
      exact ⟨fv_ga τ 27 a, by rw [(g_ou h a wa).1], rfl⟩
    · rw [if_neg (show ¬ p_R 0 255 a from fun e => c1 e.2), if_pos rfl, if_pos (show (256 : Int32) ≤ a by rw [p_le]; show (256 : Int) ≤ a.toInt; omega)]
      exact ⟨-1, rfl, rfl⟩
  · rw [if_neg (show ¬ p_R 0 255 a from fun e => c0 e.1), if_pos rfl, if_pos (show a < 0 by rw [p_lt]; show a.toInt < 0; omega)]
    exact ⟨-1, rfl, rfl⟩
theorem c_outs {σ τ : fv_S} (h : pMQ σ τ) : ∃ w, zX0_outs σ = fv_rl w σ ∧ zX8_outs τ = fv_rl w τ := by
  obtain ⟨r, hr, h⟩ := pMQ_o h
  refine ⟨fv_gl τ 86, ?_, rfl⟩
  unfold zX0_outs; rw [g_oc h]
theorem c_request {σ τ : fv_S} (h : pMQ σ τ) (a v : Int32) : ∃ w σ' τ', zX0_request a v σ = fv_ri w σ' ∧ zX8_request a v τ = fv_ri w τ' ∧ pOp σ τ σ' τ' := by
  obtain ⟨r, hr, h⟩ := pMQ_o h
  have no := pOp_of hr h
  have gi := g_i h
  have x67 : fv_gi σ 4367 = fv_gi τ 83 := gi.2.2.2.2.2.2.1.2
  have x69 : fv_gi σ 4369 = fv_gi τ 82 := gi.2.2.2.2.2.2.2.2.1.2
  unfold zX0_request zX8_request
  rw [x_isIn a (lo := 0) (hi := 1) rfl rfl, fv_bi_ri]
  by_cases c0 : 0 ≤ a.toInt
  · rw [if_neg (show ¬ a < 0 by rw [p_lt]; show ¬ a.toInt < 0; omega)]
    by_cases c1 : a.toInt ≤ 1
    · rw [if_pos (show p_R 0 1 a from ⟨c0, c1⟩), if_neg (by decide), if_neg (show ¬ (1 : Int32) < a by rw [p_lt]; show ¬ (1 : Int) < a.toInt; omega), x_isIn v (lo := 0) (hi := 255) rfl rfl, fv_bi_ri]
      by_cases d0 : 0 ≤ v.toInt
      · rw [if_neg (show ¬ v < 0 by rw [p_lt]; show ¬ v.toInt < 0; omega)]
        by_cases d1 : v.toInt ≤ 255
        · have wv := pb_rng d0 d1
          rw [if_pos (show p_R 0 255 v from ⟨d0, d1⟩), if_pos (by decide), if_pos (show v ≤ 255 by rw [p_le]; exact d1), x67, x69]
          have fin : ∀ s σ' τ', pOp σ τ σ' τ' → ∃ w σ'' τ'', zX0_request_78 s σ' = fv_ri w σ'' ∧ zX8_request_61 s τ' = fv_ri w τ'' ∧ pOp σ τ σ'' τ'' := by
            intro s σ' τ' o
            unfold zX0_request_78 zX8_request_61
            by_cases e : s = 0
            · rw [if_pos e, if_pos e]; exact ⟨1, _, _, rfl, rfl, o⟩
            · rw [if_neg e, if_neg e]; exact ⟨0, _, _, rfl, rfl, o⟩
          unfold zX0_request_46 zX8_request_38
          by_cases e : a = 0
          · simp only [e, not_true, if_false]
            exact fin _ _ _ (pOp_of hr (e_pl1 h wv))
          · simp only [e, not_false_eq_true, if_true]
            exact fin _ _ _ (pOp_of hr (e_hd h (Or.inr rfl : p_bit 1)))
        · rw [if_neg (show ¬ p_R 0 255 v from fun e => d1 e.2), if_neg (by decide), if_neg (show ¬ v ≤ 255 by rw [p_le]; exact d1)]
          exact ⟨-2, _, _, rfl, rfl, no⟩
      · rw [if_neg (show ¬ p_R 0 255 v from fun e => d0 e.1), if_neg (by decide), if_pos (show v < 0 by rw [p_lt]; show v.toInt < 0; omega)]
        exact ⟨-2, _, _, rfl, rfl, no⟩
    · rw [if_neg (show ¬ p_R 0 1 a from fun e => c1 e.2), if_pos rfl, if_pos (show (1 : Int32) < a by rw [p_lt]; show (1 : Int) < a.toInt; omega)]
      exact ⟨-2, _, _, rfl, rfl, no⟩
  · rw [if_neg (show ¬ p_R 0 1 a from fun e => c0 e.1), if_pos rfl, if_pos (show a < 0 by rw [p_lt]; show a.toInt < 0; omega)]
    exact ⟨-2, _, _, rfl, rfl, no⟩
def p_n17 (k : Int32) : Prop := k = 0 ∨ k = 1 ∨ k = 2 ∨ k = 3 ∨ k = 4 ∨ k = 5 ∨ k = 6 ∨ k = 7 ∨ k = 8 ∨ k = 9 ∨ k = 10 ∨ k = 11 ∨ k = 12 ∨ k = 13 ∨ k = 14 ∨ k = 15 ∨ k = 16
theorem p_n17of {k : Int32} (h0 : 0 ≤ k.toInt) (h1 : k.toInt ≤ 16) : p_n17 k := by
  obtain ⟨n, hn, rfl⟩ := p_rng 17 (by omega) h0 (by omega)
  have : ∀ n, n < 17 → (Int32.ofNat n = 0 ∨ Int32.ofNat n = 1 ∨ Int32.ofNat n = 2 ∨ Int32.ofNat n = 3 ∨ Int32.ofNat n = 4 ∨ Int32.ofNat n = 5 ∨ Int32.ofNat n = 6 ∨ Int32.ofNat n = 7 ∨ Int32.ofNat n = 8 ∨ Int32.ofNat n = 9 ∨ Int32.ofNat n = 10 ∨ Int32.ofNat n = 11 ∨ Int32.ofNat n = 12 ∨ Int32.ofNat n = 13 ∨ Int32.ofNat n = 14 ∨ Int32.ofNat n = 15 ∨ Int32.ofNat n = 16) := by decide +kernel
  exact this n hn
theorem c_regv {σ0 τ0 σ τ : fv_S} {p : Int32} (h : pRel σ0 τ0 p p σ τ) {k : Int32} (hk : p_n17 k) : ∃ v, zX0_register k σ = fv_ri v σ ∧ zX8_at k τ = fv_ri v τ := by
  have gi := g_i h
  rcases hk with rfl | rfl | rfl | rfl | rfl | rfl | rfl | rfl | rfl | rfl | rfl | rfl | rfl | rfl | rfl | rfl | rfl
  · refine ⟨(fv_ga τ 23 7 <<< (8 : Int32)) ||| fv_ga τ 23 6, ?_, rfl⟩
    rw [← (g_r h 7 (by decide) (by decide)).1, ← (g_f h).1]; rfl
  · refine ⟨(fv_ga τ 23 0 <<< (8 : Int32)) ||| fv_ga τ 23 1, ?_, rfl⟩
    rw [← (g_r h 0 (by decide) (by decide)).1, ← (g_r h 1 (by decide) (by decide)).1]; rfl
  · refine ⟨(fv_ga τ 23 2 <<< (8 : Int32)) ||| fv_ga τ 23 3, ?_, rfl⟩
    rw [← (g_r h 2 (by decide) (by decide)).1, ← (g_r h 3 (by decide) (by decide)).1]; rfl
  · refine ⟨(fv_ga τ 23 4 <<< (8 : Int32)) ||| fv_ga τ 23 5, ?_, rfl⟩
    rw [← (g_r h 4 (by decide) (by decide)).1, ← (g_r h 5 (by decide) (by decide)).1]; rfl
  · refine ⟨(fv_ga τ 24 7 <<< (8 : Int32)) ||| fv_ga τ 24 6, ?_, rfl⟩
    rw [← (g_o h 7 (by decide) (by decide)).1, ← (g_of h).1]; rfl
  · refine ⟨(fv_ga τ 24 0 <<< (8 : Int32)) ||| fv_ga τ 24 1, ?_, rfl⟩
    rw [← (g_o h 0 (by decide) (by decide)).1, ← (g_o h 1 (by decide) (by decide)).1]; rfl
  · refine ⟨(fv_ga τ 24 2 <<< (8 : Int32)) ||| fv_ga τ 24 3, ?_, rfl⟩
    rw [← (g_o h 2 (by decide) (by decide)).1, ← (g_o h 3 (by decide) (by decide)).1]; rfl
  · refine ⟨(fv_ga τ 24 4 <<< (8 : Int32)) ||| fv_ga τ 24 5, ?_, rfl⟩
    rw [← (g_o h 4 (by decide) (by decide)).1, ← (g_o h 5 (by decide) (by decide)).1]; rfl
  · refine ⟨fv_ga τ 25 1, ?_, rfl⟩
    rw [← (g_x1 h).1]; rfl
  · refine ⟨fv_ga τ 25 2, ?_, rfl⟩
    rw [← (g_x2 h).1]; rfl
  · refine ⟨fv_gi τ 75, ?_, rfl⟩
    rw [← (g_sp h).1]; rfl
  · refine ⟨p, ?_, ?_⟩
    · show fv_ri (fv_gi σ 4358) σ = _; rw [g_px h]
    · show fv_ri (fv_gi τ 76) τ = _; rw [g_pm h]
  · refine ⟨fv_gi τ 72, ?_, rfl⟩
    rw [← show fv_gi σ 4359 = fv_gi τ 72 from gi.2.1.2]; rfl
  · refine ⟨fv_gi τ 73, ?_, rfl⟩
    rw [← show fv_gi σ 4360 = fv_gi τ 73 from gi.2.2.1.2]; rfl
  · refine ⟨fv_gi τ 77, ?_, rfl⟩
    rw [← show fv_gi σ 4361 = fv_gi τ 77 from gi.2.2.2.1.2]; rfl
  · refine ⟨fv_gi τ 78, ?_, rfl⟩
    rw [← show fv_gi σ 4362 = fv_gi τ 78 from gi.2.2.2.2.1.2]; rfl
  · refine ⟨fv_gi τ 79, ?_, rfl⟩
    rw [← show fv_gi σ 4363 = fv_gi τ 79 from gi.2.2.2.2.2.1.2]; rfl
theorem p_no17 {k : Int32} (h : ¬ p_n17 k) (σ : fv_S) : zX0_register k σ = fv_ri (-1) σ := by
  unfold p_n17 at h
  simp only [not_or] at h
  obtain ⟨h0, h1, h2, h3, h4, h5, h6, h7, h8, h9, h10, h11, h12, h13, h14, h15, h16⟩ := h
  unfold zX0_register
  rw [if_neg h0, if_neg h1, if_neg h2, if_neg h3, if_neg h4, if_neg h5, if_neg h6, if_neg h7, if_neg h8, if_neg h9, if_neg h10, if_neg h11, if_neg h12, if_neg h13, if_neg h14, if_neg h15, if_neg h16]
theorem p_n17r {k : Int32} (h : p_n17 k) : 0 ≤ k.toInt ∧ k.toInt ≤ 16 := by
  rcases h with rfl | rfl | rfl | rfl | rfl | rfl | rfl | rfl | rfl | rfl | rfl | rfl | rfl | rfl | rfl | rfl | rfl <;> decide
theorem c_register {σ τ : fv_S} (h : pMQ σ τ) (k : Int32) : ∃ w, zX0_register k σ = fv_ri w σ ∧ zX8_register k τ = fv_ri w τ := by
  obtain ⟨r, hr, h⟩ := pMQ_o h
  unfold zX8_register
  by_cases c0 : 0 ≤ k.toInt
  · rw [if_neg (show ¬ k < 0 by rw [p_lt]; show ¬ k.toInt < 0; omega)]
    by_cases c1 : k.toInt ≤ 16
    · obtain ⟨v, x, m⟩ := c_regv h (p_n17of c0 c1)
      refine ⟨v, x, ?_⟩
      rw [if_neg (show ¬ (16 : Int32) < k by rw [p_lt]; show ¬ (16 : Int) < k.toInt; omega), m, fv_bi_ri]
    · rw [if_pos (show (16 : Int32) < k by rw [p_lt]; show (16 : Int) < k.toInt; omega)]
      exact ⟨-1, p_no17 (fun e => c1 (p_n17r e).2) σ, rfl⟩
  · rw [if_pos (show k < 0 by rw [p_lt]; show k.toInt < 0; omega)]
    exact ⟨-1, p_no17 (fun e => c0 (p_n17r e).1) σ, rfl⟩
def p_cs (k v : Int32) : Prop := if k < 12 then pw v else if k < 14 then pb v else if k < 16 then p_bit v else (v = 0 ∨ v = 1 ∨ v = 2)
theorem c_setv {σ0 τ0 σ τ : fv_S} {p : Int32} (h : pRel σ0 τ0 p p σ τ) (wp : pw p) {k v m r0 : Int32} (hk : p_n17 k) (hv : p_cs k v) (n0 : ¬ v < 0) (n1 : v ≤ m) (ha : zX8_at k τ = fv_ri r0 τ) : ∃ r σ' τ', pw r ∧ zX0_setRegister k v σ = fv_rv σ' ∧ zX8_set_46 k v m τ = fv_ri r0 τ' ∧ pRel σ0 τ0 r r σ' τ' := by
  unfold zX8_set_46
  rw [if_neg n0, if_pos n1, ha, fv_bi_ri]
  rcases hk with rfl | rfl | rfl | rfl | rfl | rfl | rfl | rfl | rfl | rfl | rfl | rfl | rfl | rfl | rfl | rfl | rfl
  · have hv : pw v := hv
    obtain ⟨σ', x, rel⟩ := c_setaf h hv
    refine ⟨p, σ', _, wp, ?_, rfl, rel⟩
    unfold zX0_setRegister; rw [if_pos rfl, x, fv_bv_rv]
  · have hv : pw v := hv
    exact ⟨p, _, _, wp, rfl, rfl, e_bc h v⟩
  · have hv : pw v := hv
    exact ⟨p, _, _, wp, rfl, rfl, e_de h v⟩
  · have hv : pw v := hv
    exact ⟨p, _, _, wp, rfl, rfl, e_hl h v⟩
  · have hv : pw v := hv
    exact ⟨p, _, _, wp, rfl, rfl, e_of (e_o h 7 (by decide) (by decide) (pw_shr8 hv)) (pb_a255 v)⟩
  · have hv : pw v := hv
    exact ⟨p, _, _, wp, rfl, rfl, e_o (e_o h 0 (by decide) (by decide) (pw_shr8 hv)) 1 (by decide) (by decide) (pb_a255 v)⟩
  · have hv : pw v := hv
    exact ⟨p, _, _, wp, rfl, rfl, e_o (e_o h 2 (by decide) (by decide) (pw_shr8 hv)) 3 (by decide) (by decide) (pb_a255 v)⟩
  · have hv : pw v := hv
    exact ⟨p, _, _, wp, rfl, rfl, e_o (e_o h 4 (by decide) (by decide) (pw_shr8 hv)) 5 (by decide) (by decide) (pb_a255 v)⟩
  · have hv : pw v := hv
    exact ⟨p, _, _, wp, rfl, rfl, e_x1 h hv⟩
  · have hv : pw v := hv
    exact ⟨p, _, _, wp, rfl, rfl, e_x2 h hv⟩
  · have hv : pw v := hv
    exact ⟨p, _, _, wp, rfl, rfl, e_sp h hv⟩
  · have hv : pw v := hv
    exact ⟨v, _, _, hv, rfl, rfl, e_pm (e_px h v) v⟩
  · have hv : pb v := hv
    exact ⟨p, _, _, wp, rfl, rfl, e_i h hv⟩
  · have hv : pb v := hv
    exact ⟨p, _, _, wp, rfl, rfl, e_rf h hv⟩
  · have hv : p_bit v := hv
    exact ⟨p, _, _, wp, rfl, rfl, e_l1 h hv⟩
  · have hv : p_bit v := hv
    exact ⟨p, _, _, wp, rfl, rfl, e_l2 h hv⟩
  · have hv : v = 0 ∨ v = 1 ∨ v = 2 := hv
    exact ⟨p, _, _, wp, rfl, rfl, e_md h hv⟩
theorem c_set {σ τ : fv_S} (h : pMQ σ τ) (k v : Int32) : ∃ w σ' τ', zX0_set k v σ = fv_ri w σ' ∧ zX8_set k v τ = fv_ri w τ' ∧ pOp σ τ σ' τ' := by
  obtain ⟨r, hr, h⟩ := pMQ_o h
  have no := pOp_of hr h
  have L : ∀ c : Int32, (c ≤ k ↔ c.toInt ≤ k.toInt) := fun c => p_le c k
  have key : p_n17 k → ∀ (m : Int32) (m64 : Int64) (hi : Int), m64.toInt = hi → m.toInt = hi → 0 ≤ hi → (∀ x : Int32, 0 ≤ x.toInt → x.toInt ≤ hi → p_cs k x) → ∃ w σ' τ', zX0_set_54 k v (Int32.toInt64 v) 0 m64 σ = fv_ri w σ' ∧ zX8_set_46 k v m τ = fv_ri w τ' ∧ pOp σ τ σ' τ' := by
    intro hk m m64 hi e1 e2 h0 hc
    unfold zX0_set_54
    rw [x_isIn v (lo := 0) (hi := hi) rfl e1, fv_bi_ri]
    by_cases d0 : 0 ≤ v.toInt
    · by_cases d1 : v.toInt ≤ hi
      · obtain ⟨w, xr, mr⟩ := c_regv h hk
        obtain ⟨r', σ', τ', hr', x, m', rel⟩ := c_setv h hr hk (hc v d0 d1) (show ¬ v < 0 by rw [p_lt]; show ¬ v.toInt < 0; omega) (show v ≤ m by rw [p_le, e2]; exact d1) mr
        refine ⟨w, σ', τ', ?_, m', pOp_of hr' rel⟩
        rw [if_pos (show p_R 0 hi v from ⟨d0, d1⟩), if_pos (by decide), xr, fv_bi_ri, x, fv_bv_rv]
      · refine ⟨-2, _, _, ?_, ?_, no⟩
        · rw [if_neg (show ¬ p_R 0 hi v from fun e => d1 e.2), if_neg (by decide)]
        · unfold zX8_set_46
          rw [if_neg (show ¬ v < 0 by rw [p_lt]; show ¬ v.toInt < 0; omega), if_neg (show ¬ v ≤ m by rw [p_le, e2]; exact d1)]
    · refine ⟨-2, _, _, ?_, ?_, no⟩
      · rw [if_neg (show ¬ p_R 0 hi v from fun e => d0 e.1), if_neg (by decide)]
      · unfold zX8_set_46
        rw [if_pos (show v < 0 by rw [p_lt]; show v.toInt < 0; omega)]
  unfold zX0_set zX8_set
  rw [x_isIn k (lo := 0) (hi := 16) rfl rfl, fv_bi_ri]
  by_cases c0 : 0 ≤ k.toInt
  · rw [if_neg (show ¬ k < 0 by rw [p_lt]; show ¬ k.toInt < 0; omega)]
    by_cases c1 : k.toInt ≤ 16
    · have hk := p_n17of c0 c1
      rw [if_pos (show p_R 0 16 k from ⟨c0, c1⟩), if_pos (by decide), if_pos (show k ≤ 16 by rw [p_le]; exact c1)]
      have cs : ∀ c : Int32, (k < c ↔ k.toInt < c.toInt) := fun c => p_lt k c
      by_cases d1 : 12 ≤ k.toInt
      · rw [if_pos ((L 12).2 d1), if_pos ((L 12).2 d1)]
        have n12 : ¬ k < 12 := fun e => by have := (cs 12).1 e; have e3 : (12 : Int32).toInt = 12 := rfl; omega
        by_cases d2 : 14 ≤ k.toInt
        · rw [if_pos ((L 14).2 d2), if_pos ((L 14).2 d2)]
          have n14 : ¬ k < 14 := fun e => by have := (cs 14).1 e; have e3 : (14 : Int32).toInt = 14 := rfl; omega
          by_cases d3 : 16 ≤ k.toInt
          · rw [if_pos ((L 16).2 d3), if_pos ((L 16).2 d3)]
            have n16 : ¬ k < 16 := fun e => by have := (cs 16).1 e; have e3 : (16 : Int32).toInt = 16 := rfl; omega
            refine key hk 2 2 2 rfl rfl (by omega) (fun x h0 h1 => ?_)
            unfold p_cs; rw [if_neg n12, if_neg n14, if_neg n16]
            obtain ⟨n, hn, rfl⟩ := p_rng 3 (by omega) h0 (by omega)
            have : ∀ n, n < 3 → (Int32.ofNat n = 0 ∨ Int32.ofNat n = 1 ∨ Int32.ofNat n = 2) := by decide
            exact this n hn
          · have nn : ¬ (16 : Int32) ≤ k := fun e => d3 ((L 16).1 e)
            rw [if_neg nn, if_neg nn]
            refine key hk 1 1 1 rfl rfl (by omega) (fun x h0 h1 => ?_)
            unfold p_cs; rw [if_neg n12, if_neg n14, if_pos ((cs 16).2 (by show k.toInt < 16; omega))]
            obtain ⟨n, hn, rfl⟩ := p_rng 2 (by omega) h0 (by omega)
            have : ∀ n, n < 2 → (Int32.ofNat n = 0 ∨ Int32.ofNat n = 1) := by decide
            exact this n hn
        · have nn : ¬ (14 : Int32) ≤ k := fun e => d2 ((L 14).1 e)
          rw [if_neg nn, if_neg nn]
          refine key hk 255 255 255 rfl rfl (by omega) (fun x h0 h1 => ?_)
          unfold p_cs; rw [if_neg n12, if_pos ((cs 14).2 (by show k.toInt < 14; omega))]
          exact pb_rng h0 h1
      · have nn : ¬ (12 : Int32) ≤ k := fun e => d1 ((L 12).1 e)
        rw [if_neg nn, if_neg nn]
        refine key hk 65535 65535 65535 rfl rfl (by omega) (fun x h0 h1 => ?_)
        unfold p_cs; rw [if_pos ((cs 12).2 (by show k.toInt < 12; omega))]
        exact pw_rng h0 h1
    · rw [if_neg (show ¬ p_R 0 16 k from fun e => c1 e.2), if_neg (by decide), if_neg (show ¬ k ≤ 16 by rw [p_le]; exact c1)]
      exact ⟨-1, _, _, rfl, rfl, no⟩
  · rw [if_neg (show ¬ p_R 0 16 k from fun e => c0 e.1), if_neg (by decide), if_pos (show k < 0 by rw [p_lt]; show k.toInt < 0; omega)]
    exact ⟨-1, _, _, rfl, rfl, no⟩
