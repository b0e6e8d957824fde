set_option maxRecDepth 100000
set_option maxHeartbeats 4000000
/-! The plain law: the class's form and the model's encoding. -/
theorem qOp_D (B : Nat → Nat) (n p : Nat) : ((qOp B n p).1, (qOp B n p).2.1) ∈ e_D := by
  have k1 : ∀ j, j < 99 → 75 ≤ j → (1, j) ∈ e_D := by decide +kernel
  have d1 : ((3 : Nat), (90 : Nat)) ∈ e_D ∧ ((3 : Nat), (91 : Nat)) ∈ e_D ∧ ((4 : Nat), (90 : Nat)) ∈ e_D ∧ ((4 : Nat), (91 : Nat)) ∈ e_D ∧ ((5 : Nat), (0 : Nat)) ∈ e_D ∧ ((6 : Nat), (0 : Nat)) ∈ e_D := by decide
  have d2 : ((2 : Nat), (88 : Nat)) ∈ e_D ∧ ((2 : Nat), (86 : Nat)) ∈ e_D ∧ ((2 : Nat), (87 : Nat)) ∈ e_D ∧ ((2 : Nat), (89 : Nat)) ∈ e_D ∧ ((2 : Nat), (77 : Nat)) ∈ e_D := by decide
  obtain ⟨d3, d4, d5, d6, d7, d8⟩ := d1
  obtain ⟨b1, b2, b3, b4, b5⟩ := d2
  unfold qOp
  split
  · split
    · rename_i h
      split
      · rcases h.1 with e | e
        · rw [e]; exact d3
        · rw [e]; exact d4
      · rcases h.1 with e | e
        · rw [e]; exact d5
        · rw [e]; exact d6
    · split
      · rename_i h
        rcases h.2 with e | e | e | e | e
        · rw [e]; exact b1
        · rw [e]; exact b2
        · rw [e]; exact b3
        · rw [e]; exact b4
        · rw [e]; exact b5
      · exact d7
  · split
    · rename_i h; exact k1 _ h.2.1 h.1
    · exact d8
/-- operands as they may come: how many, their sorts and names -/
def eD (m c0 j0 c1 j1 : Nat) : Prop := (m = 0 ∧ c0 = 0 ∧ j0 = 0 ∧ c1 = 0 ∧ j1 = 0) ∨ (m = 1 ∧ (c0, j0) ∈ e_D ∧ c1 = 0 ∧ j1 = 0) ∨ (m = 2 ∧ (c0, j0) ∈ e_D ∧ (c1, j1) ∈ e_D)
theorem e_ckw {w m c0 j0 c1 j1 : Nat} (hw : w < 67) (hd : eD m c0 j0 c1 j1) : e_ck (e_W w) w m c0 j0 c1 j1 = true := by
  have h := e_cws w hw
  unfold e_cw at h
  rw [Bool.and_eq_true, Bool.and_eq_true] at h
  rcases hd with ⟨rfl, rfl, rfl, rfl, rfl⟩ | ⟨rfl, h0, rfl, rfl⟩ | ⟨rfl, h0, h1⟩
  · exact h.1
  · exact List.all_eq_true.1 h.2.1 (c0, j0) h0
  · exact List.all_eq_true.1 (List.all_eq_true.1 h.2.2 (c0, j0) h0) (c1, j1) h1
/-- the form that the class finds -/
def eFd (w c0 j0 c1 j1 : Nat) (any : Bool) (u : Nat) : Option p_F := p_TL.find? (qfp w c0 j0 c1 j1 any u)
theorem e_sum {w m c0 j0 c1 j1 : Nat} (hw : w < 67) (hd : eD m c0 j0 c1 j1) :
    (∃ s, e_rs w m c0 j0 c1 j1 = fv_ri 0 s ∧ eFd w c0 j0 c1 j1 true 0 = none) ∨
    (∃ s f, e_rs w m c0 j0 c1 j1 = fv_ri 1 s ∧ eFd w c0 j0 c1 j1 true 0 = some f ∧ eE w f s ∧ eG w c0 c1 f ∧ (∀ u, (e_pk w = 0 ∨ u ∈ e_us (e_pk w)) → ∃ g, eFd w c0 j0 c1 j1 false u = some g ∧ eE w g s ∧ eG w c0 c1 g ∧ fv_gi s 31 + Int32.ofNat (e_co (e_pk w) u) = Int32.ofNat g.2.1 ∧ e_sz g = e_sz f)) := by
  have h := e_ckw hw hd
  unfold eFd
  rw [e_find]
  unfold e_ck at h
  cases hr : e_rs w m c0 j0 c1 j1 with
  | none => rw [hr] at h; exact absurd (show false = true from h) (by decide)
  | some o =>
    rw [hr] at h
    obtain ⟨r, s⟩ := o
    match r, h with
    | .inl (some (.inl v)), h =>
      have h : (bif decide (v = 1) then (match e_fd (e_W w) c0 j0 c1 j1 true 0 with
        | some f => e_c1 w c0 c1 f s && (e_us (e_pk w)).all (fun u => match e_fd (e_W w) c0 j0 c1 j1 false u with
          | some g => e_c1 w c0 c1 g s && e_c2 w u g s && Nat.beq (e_sz g) (e_sz f)
          | none => false)
        | none => false) else decide (v = 0) && (e_fd (e_W w) c0 j0 c1 j1 true 0).isNone) = true := h
      by_cases c : v = 1
      · right
        rw [decide_eq_true c] at h
        cases hf : e_fd (e_W w) c0 j0 c1 j1 true 0 with
        | none => rw [hf] at h; exact absurd (show false = true from h) (by decide)
        | some f =>
          rw [hf] at h
          have h : (e_c1 w c0 c1 f s && (e_us (e_pk w)).all (fun u => match e_fd (e_W w) c0 j0 c1 j1 false u with
            | some g => e_c1 w c0 c1 g s && e_c2 w u g s && Nat.beq (e_sz g) (e_sz f)
            | none => false)) = true := h
          rw [Bool.and_eq_true] at h
          obtain ⟨q1, q2⟩ := e_c1p h.1
          refine ⟨s, f, by rw [c]; rfl, rfl, q1, q2, fun u hu => ?_⟩
          rw [e_find]
          have one : ∀ x, x ∈ e_us (e_pk w) → ∃ g, e_fd (e_W w) c0 j0 c1 j1 false x = some g ∧ eE w g s ∧ eG w c0 c1 g ∧ fv_gi s 31 + Int32.ofNat (e_co (e_pk w) x) = Int32.ofNat g.2.1 ∧ e_sz g = e_sz f := by
            intro x hx
            have t := List.all_eq_true.1 h.2 x hx
            cases hg : e_fd (e_W w) c0 j0 c1 j1 false x with
            | none => rw [hg] at t; exact absurd (show false = true from t) (by decide)
            | some g =>
              rw [hg] at t
              have t : (e_c1 w c0 c1 g s && e_c2 w x g s && Nat.beq (e_sz g) (e_sz f)) = true := t
              rw [Bool.and_eq_true, Bool.and_eq_true] at t
              obtain ⟨q3, q4⟩ := e_c1p t.1.1
              exact ⟨g, rfl, q3, q4, of_decide_eq_true t.1.2, nb_t.1 t.2⟩
          rcases hu with hu | hu
          · have z : (0 : Nat) ∈ e_us (e_pk w) := by rw [hu]; decide
            obtain ⟨g, g1, g2, g3, g4, g5⟩ := one 0 z
            refine ⟨g, by rw [e_fdu hu c0 j0 c1 j1 false false u 0]; exact g1, g2, g3, ?_, g5⟩
            rw [hu] at g4 ⊢; exact g4
          · exact one u hu
      · left
        rw [decide_eq_false c] at h
        have h : (decide (v = 0) && (e_fd (e_W w) c0 j0 c1 j1 true 0).isNone) = true := h
        rw [Bool.and_eq_true] at h
        refine ⟨s, by rw [of_decide_eq_true h.1]; rfl, ?_⟩
        exact Option.isNone_iff_eq_none.1 h.2
    | .inl none, h => exact absurd (show false = true from h) (by decide)
    | .inl (some (.inr _)), h => exact absurd (show false = true from h) (by decide)
    | .inr _, h => exact absurd (show false = true from h) (by decide)
theorem eE_c {w : Nat} {f : p_F} {s t : fv_S} (hP : f.1 ≤ 6) (hk : ∀ k, 29 ≤ k → k ≤ 36 → fv_gi s k = -7 ∨ fv_gi t k = fv_gi s k) (h : eE w f s) : eE w f t := by
  obtain ⟨h1, h2, h3, h4, h5, h6⟩ := h
  have nn : ∀ a : Nat, a < 1000 → Int32.ofNat a ≠ -7 := by decide +kernel
  have bk : ∀ k, e_bk k ≤ 3 := fun k => by unfold e_bk; cases (Nat.beq k 4 || Nat.beq k 8) <;> cases (Nat.beq k 5 || Nat.beq k 7) <;> cases Nat.beq k 6 <;> decide
  have fr : ∀ P, e_fr P < 256 := fun P => by unfold e_fr; cases (Nat.beq P 3 || Nat.beq P 5) <;> cases (Nat.beq P 4 || Nat.beq P 6) <;> decide
  have mi : ∀ P, e_mi P < 256 := fun P => by unfold e_mi; cases Nat.beq P 2 <;> cases (Nat.beq P 1 || Nat.ble 5 P) <;> decide
  have pk : ∀ w, e_pk w < 4 := fun w => by unfold e_pk; cases (Nat.ble 42 w && Nat.ble w 44) <;> cases Nat.beq w 34 <;> cases Nat.beq w 48 <;> decide
  have g : ∀ k (x : Int32), 29 ≤ k → k ≤ 36 → fv_gi s k = x → x ≠ -7 → fv_gi t k = x := by
    intro k x a b e ne
    rcases hk k a b with c | c
    · exact absurd (e.symm.trans c) ne
    · rw [c, e]
  refine ⟨g 29 _ (by omega) (by omega) h1 (nn _ (by have := fr f.1; omega)), g 30 _ (by omega) (by omega) h2 (nn _ (by have := mi f.1; omega)), g 32 _ (by omega) (by omega) h3 (nn _ (by have := bk f.2.2.2.1; have := bk f.2.2.2.2.2.1; omega)), g 34 _ (by omega) (by omega) h4 (nn _ (by have := pk w; omega)), g 36 _ (by omega) (by omega) h5 ?_, fun hp => g 35 _ (by omega) (by omega) (h6 hp) (by decide)⟩
  split
  · decide
  · split <;> decide
/-- the model encodes as the class finds a form -/
theorem m_enf {B : Nat → Nat} {n w : Nat} (hw : w < 67) {m c0 j0 c1 j1 pe0 pe1 : Nat} {neg0 neg1 : Bool} {τ : fv_S} (hd : eD m c0 j0 c1 j1) (h28 : fv_gi τ 28 = Int32.ofNat m) (h0 : 1 ≤ m → mOd B n 0 c0 j0 neg0 pe0 τ) (h1 : 2 ≤ m → mOd B n 1 c1 j1 neg1 pe1 τ) :
    ∃ τ', eF τ τ' ∧ ((zX8_encode (qwd (p_nm w)) τ = fv_ri 0 τ' ∧ eFd w c0 j0 c1 j1 true 0 = none) ∨
    (∃ f, zX8_encode (qwd (p_nm w)) τ = fv_ri 1 τ' ∧ eFd w c0 j0 c1 j1 true 0 = some f ∧ eE w f τ' ∧ eG w c0 c1 f ∧ (∀ u, (e_pk w = 0 ∨ u ∈ e_us (e_pk w)) → ∃ g, eFd w c0 j0 c1 j1 false u = some g ∧ eE w g τ' ∧ eG w c0 c1 g ∧ fv_gi τ' 31 + Int32.ofNat (e_co (e_pk w) u) = Int32.ofNat g.2.1 ∧ e_sz g = e_sz f))) := by
  have hm : m ≤ 2 := by rcases hd with h | h | h <;> omega
  have s7 : ∀ (x : Nat) (o : Nat), x ≤ 400 → o ≤ 255 → (-7 : Int32) + Int32.ofNat x = Int32.ofNat o → x = o + 7 := by
    intro x o hx ho e
    have e : (-7 : Int32) + Int32.ofNat x = Int32.ofNat o := e
    have e2 : Int32.ofNat x = Int32.ofNat (o + 7) := by
      rw [Int32.ofNat_add, ← e]
      show Int32.ofNat x = -7 + Int32.ofNat x + 7
      rw [Int32.add_comm (-7) _, Int32.add_assoc]; show _ = Int32.ofNat x + 0; rw [Int32.add_zero]
    exact (p_eqN x (o + 7) (by omega) (by omega)).1 e2
  rcases e_sum hw hd with ⟨s, r1, r2⟩ | ⟨s, f, r1, r2, r3, r4, r5⟩
  · rcases m_enc w hm h28 h0 h1 with ⟨e, _⟩ | ⟨v, s', τ', e1, e2, e3, e4⟩
    · rw [r1] at e; exact absurd e (by unfold fv_ri; simp)
    · rw [r1] at e1
      injection e1 with e1; injection e1 with e5 e6; injection e5 with e5; injection e5 with e5; injection e5 with e5
      refine ⟨τ', e3, Or.inl ⟨by rw [e2, ← e5], r2⟩⟩
  · rcases m_enc w hm h28 h0 h1 with ⟨e, _⟩ | ⟨v, s', τ', e1, e2, e3, e4⟩
    · rw [r1] at e; exact absurd e (by unfold fv_ri; simp)
    · rw [r1] at e1
      injection e1 with e1; injection e1 with e5 e6; injection e5 with e5; injection e5 with e5; injection e5 with e5
      rw [← e6] at e4
      refine ⟨τ', e3, Or.inr ⟨f, by rw [e2, ← e5], r2, eE_c r4.2.2.2.2.2.2.2.2.2.2.2.1 e4 r3, r4, fun u hu => ?_⟩⟩
      obtain ⟨g, g1, g2, g3, g4, g5⟩ := r5 u hu
      refine ⟨g, g1, eE_c g3.2.2.2.2.2.2.2.2.2.2.2.1 e4 g2, g3, ?_, g5⟩
      rcases e4 31 (by omega) (by omega) with c | c
      · have z0 : e_pk w = 0 ∨ 0 ∈ e_us (e_pk w) := by
          have pk : e_pk w < 4 := by unfold e_pk; cases (Nat.ble 42 w && Nat.ble w 44) <;> cases Nat.beq w 34 <;> cases Nat.beq w 48 <;> decide
          have : ∀ k, k < 4 → (0 : Nat) ∈ e_us k := by decide
          exact Or.inr (this _ pk)
        obtain ⟨g', _, _, q3, q4, _⟩ := r5 0 z0
        have c0 : e_co (e_pk w) 0 = 0 := by
          have pk : e_pk w < 4 := by unfold e_pk; cases (Nat.ble 42 w && Nat.ble w 44) <;> cases Nat.beq w 34 <;> cases Nat.beq w 48 <;> decide
          have : ∀ k, k < 4 → e_co k 0 = 0 := by decide
          exact this _ pk
        rw [c, c0] at q4
        have := s7 0 g'.2.1 (by omega) q3.2.2.2.2.2.2.2.2.2.2.2.2 q4
        omega
      · rw [c]; exact g4
