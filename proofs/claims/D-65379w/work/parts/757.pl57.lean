set_option maxRecDepth 100000
set_option maxHeartbeats 4000000
/-! The plain law: the model's stacks run down. -/
def qpp (K : Bool) : List (Nat × Nat) → List Int32 → (Nat × Nat) ⊕ List Int32
  | [], V => .inr V
  | x :: P, b :: a :: V => if x.1 = 47 ∧ b = 0 then (if K = true then .inl (5, x.2) else qpp K P (qap x.1 a 1 :: V)) else qpp K P (qap x.1 a b :: V)
  | _ :: _, V => .inr V
theorem qpp_c (K : Bool) (x : Nat × Nat) (P : List (Nat × Nat)) (a b : Int32) (V : List Int32) : qpp K (x :: P) (b :: a :: V) = if x.1 = 47 ∧ b = 0 then (if K = true then .inl (5, x.2) else qpp K P (qap x.1 a 1 :: V)) else qpp K P (qap x.1 a b :: V) := rfl
theorem qpp_len (K : Bool) : ∀ (P : List (Nat × Nat)) (V V' : List Int32), P.length + 1 ≤ V.length → qpp K P V = .inr V' → V'.length + P.length = V.length := by
  intro P
  induction P with
  | nil => intro V V' _ h; have := Sum.inr.inj (show (Sum.inr V : (Nat × Nat) ⊕ List Int32) = .inr V' from h); rw [this]; rfl
  | cons x P ih =>
    intro V V' hl h
    match V, hl with
    | b :: a :: V, hl =>
      rw [qpp_c] at h
      have l1 : P.length + 1 ≤ (V.length + 1) := by simp at hl; omega
      by_cases c : x.1 = 47 ∧ b = 0
      · rw [if_pos c] at h
        cases K with
        | true => rw [if_pos rfl] at h; exact absurd h (by simp)
        | false => rw [if_neg (by decide)] at h; have := ih (_ :: V) V' l1 h; simp at this ⊢; omega
      · rw [if_neg c] at h; have := ih (_ :: V) V' l1 h; simp at this ⊢; omega
theorem qpp_app (K : Bool) : ∀ (P Q : List (Nat × Nat)) (V : List Int32), P.length + 1 ≤ V.length → qpp K (P ++ Q) V = match qpp K P V with
    | .inl f => .inl f
    | .inr V' => qpp K Q V' := by
  intro P
  induction P with
  | nil => intro Q V _; rfl
  | cons x P ih =>
    intro Q V hl
    match V, hl with
    | b :: a :: V, hl =>
      have l1 : P.length + 1 ≤ (V.length + 1) := by simp at hl; omega
      show qpp K (x :: (P ++ Q)) (b :: a :: V) = _
      rw [qpp_c, qpp_c]
      by_cases c : x.1 = 47 ∧ b = 0
      · rw [if_pos c, if_pos c]
        cases K with
        | true => rw [if_pos rfl, if_pos rfl]
        | false => rw [if_neg (by decide), if_neg (by decide)]; exact ih Q (_ :: V) l1
      · rw [if_neg c, if_neg c]; exact ih Q (_ :: V) l1
theorem m_pop (f : Nat → fv_S → Option fv_O) (K : Bool) (l : Nat) (hf : ∀ (m k q : Nat) (W : List (Nat × Nat)) (V : List Int32) (τ : fv_S), mS ((k, q) :: W) V τ → l ≤ qlv k → 1 ≤ qlv k → W.length < 400 → f (m + 1) τ = fv_bi (zX8_apply (q01 K) τ) (fun r s => if ¬ r = 0 then f m s else fv_ri 0 s) fv_no) :
    ∀ (P : List (Nat × Nat)) (V' : List Int32) (W : List (Nat × Nat)) (τ : fv_S) (m : Nat), mS (P ++ W) V' τ → (∀ x, x ∈ P → l ≤ qlv x.1 ∧ 1 ≤ qlv x.1) → P.length + 1 ≤ m → P.length + 1 ≤ V'.length → V'.length ≤ 400 → P.length + W.length ≤ 400 → fv_gi τ 8 = 0 →
    (∀ g, qpp K P V' = .inl g → mFt g τ (f m τ)) ∧ (∀ V'', qpp K P V' = .inr V'' → ∃ τ' m', f m τ = f (m' + 1) τ' ∧ mS W V'' τ' ∧ mFs τ τ') := by
  intro P
  induction P with
  | nil =>
    intro V' W τ m hS _ hm _ _ _ _
    obtain ⟨m, rfl⟩ : ∃ j, m = j + 1 := ⟨m - 1, by omega⟩
    refine ⟨fun g h => absurd (show (Sum.inr V' : (Nat × Nat) ⊕ List Int32) = .inl g from h) (by simp), fun V'' h => ?_⟩
    have := Sum.inr.inj (show (Sum.inr V' : (Nat × Nat) ⊕ List Int32) = .inr V'' from h)
    subst this
    exact ⟨τ, m, rfl, hS, mFs_r τ⟩
  | cons x P ih =>
    intro V' W τ m hS hP hm hl hv hw h8
    match V', hl with
    | b :: a :: V, hl =>
      obtain ⟨m, rfl⟩ : ∃ j, m = j + 1 := ⟨m - 1, by omega⟩
      have hx := hP x (by simp)
      have hP' : ∀ y, y ∈ P → l ≤ qlv y.1 ∧ 1 ≤ qlv y.1 := fun y hy => hP y (by simp [hy])
      simp only [List.length_cons] at hl hv hw hm
      have hL : (P ++ W).length < 400 := by rw [List.length_append]; omega
      obtain ⟨A, C⟩ := m_apply (k := x.1) (q := x.2) hS hx.2 hL (by omega) K h8
      have st := hf m x.1 x.2 (P ++ W) (b :: a :: V) τ hS hx.1 hx.2 hL
      rw [qpp_c]
      by_cases c : K = true ∧ x.1 = 47 ∧ b = 0
      · rw [if_pos c.2, if_pos c.1]
        refine ⟨fun g h => ?_, fun V'' h => absurd h (by simp)⟩
        have := Sum.inl.inj h
        subst this
        obtain ⟨τ', y1, y2⟩ := A c
        rw [st, y1, fv_bi_ri, if_neg (not_not_intro rfl)]
        exact ⟨τ', rfl, y2⟩
      · obtain ⟨τ1, y1, y2, y3⟩ := C c
        rw [st, y1, fv_bi_ri, if_pos (show ¬ (1 : Int32) = 0 by decide)]
        have e : (if x.1 = 47 ∧ b = 0 then (if K = true then (Sum.inl (5, x.2) : (Nat × Nat) ⊕ List Int32) else qpp K P (qap x.1 a 1 :: V)) else qpp K P (qap x.1 a b :: V)) = qpp K P ((if x.1 = 47 ∧ b = 0 then qap x.1 a 1 else qap x.1 a b) :: V) := by
          by_cases c2 : x.1 = 47 ∧ b = 0
          · rw [if_pos c2, if_neg (fun hk => c ⟨hk, c2⟩), if_pos c2]
          · rw [if_neg c2, if_neg c2]
        rw [e]
        obtain ⟨z1, z2⟩ := ih (_ :: V) W τ1 m y2 hP' (by omega) (by simp only [List.length_cons]; omega) (by simp only [List.length_cons]; omega) (by omega) ((y3.1 8 (by omega) (by omega) (by omega)).trans h8)
        refine ⟨fun g h => mFt_t (mFe_s y3) (z1 g h), fun V'' h => ?_⟩
        obtain ⟨τ', m', w1, w2, w3⟩ := z2 V'' h
        exact ⟨τ', m', w1, w2, mFs_t y3 w3⟩
theorem m_top {k q : Nat} {W : List (Nat × Nat)} {V : List Int32} {τ : fv_S} (h : mS ((k, q) :: W) V τ) (hl : W.length < 400) : ¬ fv_gi τ 16 ≤ 0 ∧ fv_gi τ 16 - 1 = Int32.ofNat W.length ∧ fv_in (Int32.ofNat W.length) 400 ∧ fv_ga τ 5 (Int32.ofNat W.length) = Int32.ofNat (qmv k) := by
  obtain ⟨i1, i2⟩ := p_inN W.length 400 hl (by omega)
  have e16 : fv_gi τ 16 = Int32.ofNat (W.length + 1) := h.2.2.1
  refine ⟨fun e => ?_, ?_, i1, ?_⟩
  · rw [e16] at e; have := (p_leN (W.length + 1) 0 (by omega) (by omega)).1 e; omega
  · rw [e16, p_prN _ (by omega)]; rfl
  · show fv_gw τ 5 (Int32.ofNat W.length).toNatClampNeg = _; rw [i2]; exact h.1.1
theorem m_36f (N : Nat) (k0 : Int32 → fv_S → Option fv_O) (K : Bool) (x2 : Int32) (m k q : Nat) (W : List (Nat × Nat)) (V : List Int32) (τ : fv_S) (h : mS ((k, q) :: W) V τ) (hk : 1 ≤ qlv k) (hl : W.length < 400) : zX8_behind_36 N k0 (m + 1) (q01 K) x2 τ = fv_bi (zX8_apply (q01 K) τ) (fun r s => if ¬ r = 0 then zX8_behind_36 N k0 m (q01 K) x2 s else fv_ri 0 s) fv_no := by
  obtain ⟨a1, a2, a3, a4⟩ := m_top h hl
  have hb := qmv_bin hk
  show zX8_behind_36_b _ _ _ _ _ _ = _
  unfold zX8_behind_36_b
  rw [if_neg a1, a2, if_pos a3, a4, if_neg (fun e => by have := (qmv_c k 1 hb.1 (by omega)).1 e; omega)]
theorem m_36e (N : Nat) (k0 : Int32 → fv_S → Option fv_O) (x1 x2 : Int32) (m : Nat) (W : List (Nat × Nat)) (V : List Int32) (τ : fv_S) (h : mS W V τ) (hW : W = [] ∨ ∃ q W', W = (1, q) :: W') (hl : W.length ≤ 400) : zX8_behind_36 N k0 (m + 1) x1 x2 τ = zX8_behind_68 N k0 x1 x2 τ := by
  show zX8_behind_36_b _ _ _ _ _ _ = _
  unfold zX8_behind_36_b
  rcases hW with rfl | ⟨q, W', rfl⟩
  · rw [if_pos (show fv_gi τ 16 ≤ 0 by rw [h.2.2.1]; decide)]
  · obtain ⟨a1, a2, a3, a4⟩ := m_top h (by simp only [List.length_cons] at hl; omega)
    rw [if_neg a1, a2, if_pos a3, a4, if_pos (show Int32.ofNat (qmv 1) = 1 by decide)]
theorem m_rank (k : Nat) (hk : k < 256) (τ : fv_S) : zX8_rank (Int32.ofNat (qmv k)) τ = fv_ri (Int32.ofNat (qlv k)) τ := by
  have K : p_K (fun τ => zX8_rank (Int32.ofNat (qmv k)) τ) := by
    unfold zX8_rank; repeat (first | exact p_Kr _ | with_reducible apply p_Ki)
  rw [p_Kv K τ]
  have : ∀ k, k < 256 → p_v (zX8_rank (Int32.ofNat (qmv k)) p_σd) = Int32.ofNat (qlv k) := by decide +kernel
  rw [this k hk]
theorem qlv_6 (k : Nat) : qlv k ≤ 6 := by
  unfold qlv
  repeat' split
  all_goals omega
theorem m_128f (N : Nat) (K : Bool) (r m k q : Nat) (W : List (Nat × Nat)) (V : List Int32) (τ : fv_S) (h : mS ((k, q) :: W) V τ) (hr : r ≤ qlv k) (hk : 1 ≤ qlv k) (hl : W.length < 400) : zX8_behind_128 N (m + 1) (q01 K) (Int32.ofNat r) τ = fv_bi (zX8_apply (q01 K) τ) (fun x s => if ¬ x = 0 then zX8_behind_128 N m (q01 K) (Int32.ofNat r) s else fv_ri 0 s) fv_no := by
  obtain ⟨a1, a2, a3, a4⟩ := m_top h hl
  have hb := qmv_bin hk
  have l6 := qlv_6 k
  show zX8_behind_128_b _ _ _ _ _ = _
  unfold zX8_behind_128_b
  rw [if_neg a1, a2, if_pos a3, a4, if_neg (fun e => by have := (qmv_c k 1 hb.1 (by omega)).1 e; omega), if_pos a3, m_rank k hb.1, fv_bi_ri, if_neg (fun e => by have := (p_ltN _ _ (by omega) (by omega)).1 e; omega)]
/-- nothing on the stack that a sign of rank r would wait for -/
def qlo (r : Nat) (W : List (Nat × Nat)) : Prop := match W with
  | [] => True
  | x :: _ => x.1 = 1 ∨ (1 ≤ qlv x.1 ∧ qlv x.1 < r)
theorem m_128e (N : Nat) (x1 : Int32) (r m : Nat) (hr : r ≤ 6) (W : List (Nat × Nat)) (V : List Int32) (τ : fv_S) (h : mS W V τ) (hW : qlo r W) (hl : W.length ≤ 400) : zX8_behind_128 N (m + 1) x1 (Int32.ofNat r) τ = zX8_behind_179 N (Int32.ofNat r) τ := by
  show zX8_behind_128_b _ _ _ _ _ = _
  unfold zX8_behind_128_b
  cases W with
  | nil => rw [if_pos (show fv_gi τ 16 ≤ 0 by rw [h.2.2.1]; decide)]
  | cons x W =>
    obtain ⟨a1, a2, a3, a4⟩ := m_top (k := x.1) (q := x.2) h (by simp only [List.length_cons] at hl; omega)
    rw [if_neg a1, a2, if_pos a3, a4]
    rcases hW with h1 | ⟨h1, h2⟩
    · rw [h1, if_pos (show Int32.ofNat (qmv 1) = 1 by decide)]
    · have hb := qmv_bin h1
      rw [if_neg (fun e => by have := (qmv_c x.1 1 hb.1 (by omega)).1 e; omega), if_pos a3, m_rank x.1 hb.1, fv_bi_ri, if_pos ((p_ltN _ _ (by omega) (by omega)).2 h2)]
theorem m_16 (N : Nat) (k0 : Int32 → fv_S → Option fv_O) (x1 : Int32) (τ : fv_S) : ∀ (W : List (Nat × Nat)) (m : Nat), mW W τ → (∀ x, x ∈ W → x.1 < 256) → W.length + 1 ≤ m → W.length ≤ 400 → ∃ y, zX8_behind_16 N k0 m x1 (Int32.ofNat W.length - 1) τ = zX8_behind_36 N k0 N x1 y τ ∧ ((0 : Int32) ≤ y ↔ ∃ x, x ∈ W ∧ x.1 = 1) := by
  intro W
  induction W with
  | nil =>
    intro m _ _ hm _
    obtain ⟨m, rfl⟩ : ∃ j, m = j + 1 := ⟨m - 1, by omega⟩
    refine ⟨-1, ?_, ⟨fun e => absurd e (by decide), fun ⟨x, h, _⟩ => absurd h (by simp)⟩⟩
    show zX8_behind_16_b _ _ _ _ _ _ = _
    unfold zX8_behind_16_b
    rw [if_pos (show Int32.ofNat ([] : List (Nat × Nat)).length - 1 < 0 by decide)]; rfl
  | cons x W ih =>
    intro m hw hk hm hl
    simp only [List.length_cons] at hl hm
    obtain ⟨m, rfl⟩ : ∃ j, m = j + 1 := ⟨m - 1, by omega⟩
    obtain ⟨i1, i2⟩ := p_inN W.length 400 (by omega) (by omega)
    have e : Int32.ofNat (x :: W).length - 1 = Int32.ofNat W.length := by show Int32.ofNat (W.length + 1) - 1 = _; rw [p_prN _ (by omega)]; rfl
    have g5 : fv_ga τ 5 (Int32.ofNat W.length) = Int32.ofNat (qmv x.1) := by show fv_gw τ 5 (Int32.ofNat W.length).toNatClampNeg = _; rw [i2]; exact hw.1
    rw [e]
    show ∃ y, zX8_behind_16_b _ _ _ _ _ _ = _ ∧ _
    unfold zX8_behind_16_b
    rw [if_neg (show ¬ Int32.ofNat W.length < 0 from fun e => by have := (p_ltN W.length 0 (by omega) (by omega)).1 e; omega), if_pos i1, g5]
    by_cases c : x.1 = 1
    · rw [if_pos (show Int32.ofNat (qmv x.1) = 1 by rw [c]; decide)]
      exact ⟨_, rfl, ⟨fun _ => ⟨x, by simp, c⟩, fun _ => (p_leN 0 W.length (by omega) (by omega)).2 (by omega)⟩⟩
    · rw [if_neg (show ¬ Int32.ofNat (qmv x.1) = 1 from fun e => c ((qmv_c x.1 1 (hk x (by simp)) (by omega)).1 e)), show Int32.ofNat W.length + -1 = Int32.ofNat W.length - 1 from (Int32.sub_eq_add_neg _ _).symm]
      obtain ⟨y, y1, y2⟩ := ih m hw.2.2 (fun z hz => hk z (by simp [hz])) (by omega) (by omega)
      refine ⟨y, y1, y2.trans ⟨fun ⟨z, hz, h1⟩ => ⟨z, by simp [hz], h1⟩, fun ⟨z, hz, h1⟩ => ?_⟩⟩
      rcases List.mem_cons.1 hz with h | h
      · subst h; exact absurd h1 c
      · exact ⟨z, h, h1⟩
def qus : List (Nat × Nat) → Int32 → List (Nat × Nat) × Int32
  | [], v => ([], v)
  | x :: W, v => if x.1 = 2 then qus W (-v) else if x.1 = 3 then qus W (v ^^^ -1) else (x :: W, v)
theorem m_una (N : Nat) (x1 : Int32) : ∀ (W : List (Nat × Nat)) (v : Int32) (V : List Int32) (τ : fv_S) (m : Nat), mS W (v :: V) τ → (∀ x, x ∈ W → x.1 < 256) → W.length + 1 ≤ m → W.length ≤ 400 → V.length + 1 ≤ 400 → ∃ τ', zX8_unaries_0 N m x1 τ = fv_ri 1 τ' ∧ mS (qus W v).1 ((qus W v).2 :: V) τ' ∧ mFs τ τ' := by
  intro W
  induction W with
  | nil =>
    intro v V τ m h _ hm _ _
    obtain ⟨m, rfl⟩ : ∃ j, m = j + 1 := ⟨m - 1, by omega⟩
    refine ⟨τ, ?_, h, mFs_r τ⟩
    show zX8_unaries_0_b _ _ _ _ = _
    unfold zX8_unaries_0_b
    rw [if_pos (show fv_gi τ 16 ≤ 0 by rw [h.2.2.1]; decide)]
  | cons x W ih =>
    intro v V τ m h hk hm hl hv
    simp only [List.length_cons] at hl hm
    obtain ⟨m, rfl⟩ : ∃ j, m = j + 1 := ⟨m - 1, by omega⟩
    obtain ⟨a1, a2, a3, a4⟩ := m_top (k := x.1) (q := x.2) h (by omega)
    have hk' : ∀ y, y ∈ W → y.1 < 256 := fun y hy => hk y (by simp [hy])
    have hx := hk x (by simp)
    have go : (x.1 = 2 ∨ x.1 = 3) → ∃ τ', zX8_unaries_37 N (zX8_unaries_0 N m) x1 τ = fv_ri 1 τ' ∧ mS (qus (x :: W) v).1 ((qus (x :: W) v).2 :: V) τ' ∧ mFs τ τ' := by
      intro hx23
      obtain ⟨τ1, y1, y2, y3⟩ := m_applyU (k := x.1) (q := x.2) h hx23 (by omega) (by omega) x1
      unfold zX8_unaries_37
      rw [y1, fv_bi_ri]
      obtain ⟨τ2, z1, z2, z3⟩ := ih _ V τ1 m y2 hk' (by omega) (by omega) hv
      refine ⟨τ2, z1, ?_, mFs_t y3 z3⟩
      rcases hx23 with e | e
      · rw [if_pos e] at z2
        rw [show qus (x :: W) v = qus W (-v) by show (if x.1 = 2 then _ else _) = _; rw [if_pos e]]; exact z2
      · rw [if_neg (by omega)] at z2
        rw [show qus (x :: W) v = qus W (v ^^^ -1) by show (if x.1 = 2 then _ else _) = _; rw [if_neg (by omega), if_pos e]]; exact z2
    show ∃ τ', zX8_unaries_0_b _ _ _ _ = _ ∧ _
    unfold zX8_unaries_0_b
    rw [if_neg a1, a2, if_pos a3, a4]
    by_cases c2 : x.1 = 2
    · rw [if_pos (show Int32.ofNat (qmv x.1) = 2 by rw [c2]; decide)]; exact go (Or.inl c2)
    rw [if_neg (show ¬ Int32.ofNat (qmv x.1) = 2 from fun e => c2 ((qmv_c x.1 2 hx (by omega)).1 e)), if_pos a3]
    by_cases c3 : x.1 = 3
    · rw [if_neg (show ¬ ¬ Int32.ofNat (qmv x.1) = 3 by rw [c3]; decide)]; exact go (Or.inr c3)
    rw [if_pos (show ¬ Int32.ofNat (qmv x.1) = 3 from fun e => c3 ((qmv_c x.1 3 hx (by omega)).1 e))]
    refine ⟨τ, rfl, ?_, mFs_r τ⟩
    rw [show qus (x :: W) v = (x :: W, v) by show (if x.1 = 2 then _ else _) = _; rw [if_neg c2, if_neg c3]]; exact h
