set_option maxRecDepth 100000
set_option maxHeartbeats 4000000
/-! The plain law: the model between two operands. -/
noncomputable def zB (N : Nat) (x1 : Int32) (m1 m2 : Nat) (τ : fv_S) : Option fv_O := fv_bi (zX8_behind_0 N m2 x1 τ) (fun r21 σ20 => if (fv_gi σ20 8) ≤ 0 then (if ¬ r21 = 0 then zX8_expression_15 N m1 x1 σ20 else zX8_expression_139 N N x1 σ20) else fv_ri 0 σ20) fv_no
theorem zB_f {N : Nat} {x1 : Int32} {m1 m2 : Nat} {τ : fv_S} {f : Nat × Nat} (h : mFt f τ (zX8_behind_0 N m2 x1 τ)) : mFt f τ (zB N x1 m1 m2 τ) := by
  obtain ⟨τ', h1, h2, h3, h4, h5⟩ := h
  unfold zB
  rw [h1, fv_bi_ri, h2, if_neg (fun e => by have := (p_leN f.1 0 (by omega) (by omega)).1 e; omega)]
  exact ⟨τ', rfl, h2, h3, h4, h5⟩
/-- the model in an expression -/
def mC (B : Nat → Nat) (n : Nat) (L : List (List Nat × Int32)) (e : qEv) (W : List (Nat × Nat)) (V : List Int32) (p : Nat) (τ : fv_S) : Prop := qM B n τ ∧ mL L τ ∧ e.1 = qlk L ∧ fv_gi τ 21 = e.2 ∧ qMt B (qT B n p) τ ∧ mS W V τ ∧ fv_gi τ 8 = 0 ∧ p ≤ n
theorem mC_s {B : Nat → Nat} {n : Nat} {L : List (List Nat × Int32)} {e : qEv} {W W' : List (Nat × Nat)} {V V' : List Int32} {p : Nat} {τ τ' : fv_S} (h : mC B n L e W V p τ) (f : mFs τ τ') (s : mS W' V' τ') : mC B n L e W' V' p τ' :=
  ⟨qM_s h.1 (mFe_s f), mL_s h.2.1 (mFe_s f), h.2.2.1, (f.1 21 (by omega) (by omega) (by omega)).trans h.2.2.2.1, qMt_s h.2.2.2.2.1 f, s, (f.1 8 (by omega) (by omega) (by omega)).trans h.2.2.2.2.2.2.1, h.2.2.2.2.2.2.2⟩
theorem mC_n {B : Nat → Nat} {n : Nat} {L : List (List Nat × Int32)} {e : qEv} {W : List (Nat × Nat)} {V : List Int32} {p p' : Nat} {τ τ' : fv_S} (h : mC B n L e W V p τ) (f : qFt τ τ') (k : qMt B (qT B n p') τ') (hp : p' ≤ n) : mC B n L e W V p' τ' :=
  ⟨qM_f h.1 f, mL_s h.2.1 (mFe_q f), h.2.2.1, (f.1 21 (by omega)).trans h.2.2.2.1, k, mS_q h.2.2.2.2.2.1 f, (f.1 8 (by omega)).trans h.2.2.2.2.2.2.1, hp⟩
/-- the rank of the token at hand -/
theorem m_rk {B : Nat → Nat} {n p : Nat} (hS : qS B n) {τ : fv_S} (hp : p ≤ n) (k : qMt B (qT B n p) τ) (N : Nat) (K : Bool) (c41 : (qT B n p).1 ≠ 41) (k0 : Int32 → fv_S → Option fv_O) : zX8_behind_0_b N k0 (q01 K) τ = zX8_behind_128 N N (q01 K) (Int32.ofNat (qlv (qT B n p).1)) τ := by
  have hb := qT_b hS p hp
  have e5 := (m_k k.1 5 (by omega)).trans (qmk_e (qT B n p).1).2.2.2.2.2.1
  unfold zX8_behind_0_b
  rw [show zX8_isSign 41 τ = _ from m_sgn hb k.1 41 rfl, fv_bi_ri, show ((qT B n p).1 == 41) = false by simp [c41], if_pos (show q01 false = 0 by decide)]
  by_cases c : (qT B n p).1 = 4 ∨ (qT B n p).1 = 5 ∨ 6 < (qT B n p).1
  · have hk : (qT B n p).1 < 256 := by
      rcases hb.2.2.2.2.1 with h | h
      · omega
      · have := qsg_lt h; omega
    rw [if_neg (show ¬ ¬ fv_gi τ 3 = 5 from not_not_intro (e5.2 c)), k.1.2.2.2.2.1 c, m_rank _ hk, fv_bi_ri]
  · rw [if_pos (show ¬ fv_gi τ 3 = 5 from fun e => c (e5.1 e))]
    have : qlv (qT B n p).1 = 0 := by
      apply Decidable.byContradiction; intro h
      have := qlv_c (k := (qT B n p).1) rfl (by omega)
      omega
    rw [this]; rfl
theorem m_Bop {B : Nat → Nat} {n N p : Nat} (hS : qS B n) (hN : 7000 ≤ N) {L : List (List Nat × Int32)} {e : qEv} (K : Bool) {P W : List (Nat × Nat)} {V' : List Int32} {τ : fv_S} (h : mC B n L e (P ++ W) V' p τ) (hr : 1 ≤ qlv (qT B n p).1) (hP : ∀ x, x ∈ P → qlv (qT B n p).1 ≤ qlv x.1) (hW : qlo (qlv (qT B n p).1) W) (hl : P.length + W.length < 390) (hv : P.length + 1 ≤ V'.length) (hv2 : V'.length ≤ 400) (m1 m2 : Nat) :
    (∀ g, qpp K P V' = .inl g → mFt g τ (zB N (q01 K) m1 (m2 + 1) τ)) ∧ (∀ V'', qpp K P V' = .inr V'' → ∃ τ', zB N (q01 K) m1 (m2 + 1) τ = zX8_expression_15 N m1 (q01 K) τ' ∧ mFe τ τ' ∧ mC B n L e (((qT B n p).1, (qT B n p).2.1) :: W) V'' (qT B n p).2.2.1 τ') := by
  obtain ⟨hM, hL, he, ho, hk, hs, h8, hp⟩ := h
  have hn := hS.1
  have hb := qT_b hS p hp
  have c41 : (qT B n p).1 ≠ 41 := fun e => by rw [e] at hr; exact absurd hr (by decide)
  have hkk := qlv_k hr
  have l6 := qlv_6 (qT B n p).1
  obtain ⟨A, C⟩ := m_pop (fun m τ => zX8_behind_128 N m (q01 K) (Int32.ofNat (qlv (qT B n p).1)) τ) K (qlv (qT B n p).1) (fun m k q W V τ h h1 h2 h3 => m_128f N K _ m k q W V τ h h1 h2 h3) P V' W τ N hs (fun x hx => ⟨hP x hx, by have := hP x hx; omega⟩) (by omega) hv hv2 (by omega) h8
  constructor
  · intro g hg
    apply zB_f
    show mFt g τ (zX8_behind_0_b _ _ _ _)
    rw [m_rk hS hp hk N K c41]
    exact A g hg
  · intro V'' hV
    obtain ⟨τ1, m', x1, s1, f1⟩ := C V'' hV
    have k1 := qMt_s hk f1
    have e128 : zX8_behind_0 N (m2 + 1) (q01 K) τ = zX8_behind_179 N (Int32.ofNat (qlv (qT B n p).1)) τ1 := by
      show zX8_behind_0_b _ _ _ _ = _
      rw [m_rk hS hp hk N K c41]
      exact x1.trans (m_128e N (q01 K) _ m' l6 W V'' τ1 s1 hW (by omega))
    obtain ⟨τ2, x2, w2, v2, a1, a2, a3, f2⟩ := m_psh s1 (qT B n p).1 (qT B n p).2.1 (by omega) k1.1.2.2.1
    have k2 := qMt_s k1 f2
    have f12 := mFs_t f1 f2
    have hbin : (qT B n p).1 = 4 ∨ (qT B n p).1 = 5 ∨ 6 < (qT B n p).1 := by omega
    obtain ⟨τ3, x3, f3, k3⟩ := m_go hS hN hp (qM_s hM (mFe_s f12)) k2
    have s2 : mS (((qT B n p).1, (qT B n p).2.1) :: W) V'' τ2 := by
      refine ⟨w2, v2, a1, a2, a3.trans ?_⟩
      show Int32.ofNat (qop W) = Int32.ofNat ((if (qT B n p).1 ≤ 3 then 1 else 0) + qop W)
      rw [if_neg (by omega), Nat.zero_add]
    have c2 : mC B n L e (((qT B n p).1, (qT B n p).2.1) :: W) V'' p τ2 := mC_s ⟨hM, hL, he, ho, hk, hs, h8, hp⟩ f12 s2
    have c3 := mC_n c2 f3 k3 hb.2.2.1
    refine ⟨τ3, ?_, mFe_t (mFe_s f12) (mFe_q f3), c3⟩
    unfold zB
    rw [e128]
    unfold zX8_behind_179
    rw [if_pos (show ¬ Int32.ofNat (qlv (qT B n p).1) = 0 from fun e => by have := (p_eqN _ 0 (by omega) (by omega)).1 e; omega), k1.1.2.2.2.2.1 hbin, x2, fv_bv_rv, x3, fv_bv_rv, fv_bi_ri, c3.2.2.2.2.2.2.1, if_pos (show (0 : Int32) ≤ 0 by decide), if_pos (show ¬ (1 : Int32) = 0 by decide)]
theorem mS_pop {k q : Nat} {W : List (Nat × Nat)} {V : List Int32} {τ : fv_S} (h : mS ((k, q) :: W) V τ) (hk : k ≤ 3) : mS W V (fv_si (fv_si τ 16 (fv_gi τ 16 - 1)) 19 (fv_gi τ 19 - 1)) ∧ mFs τ (fv_si (fv_si τ 16 (fv_gi τ 16 - 1)) 19 (fv_gi τ 19 - 1)) := by
  refine ⟨⟨mW_c W τ _ (fun _ _ => ⟨rfl, rfl⟩) h.1.2.2, mV_c V τ _ (fun _ _ => rfl) h.2.1, ?_, h.2.2.2.1, ?_⟩, ⟨fun j h1 h2 h3 => (if_neg h3).trans (if_neg h1), rfl, fun _ _ _ _ => rfl, rfl⟩⟩
  · show fv_gi τ 16 - 1 = _
    rw [h.2.2.1]; show Int32.ofNat (W.length + 1) - 1 = _; rw [p_prN _ (by omega)]; rfl
  · show fv_gi τ 19 - 1 = _
    rw [h.2.2.2.2]; show Int32.ofNat ((if k ≤ 3 then 1 else 0) + qop W) - 1 = _
    rw [if_pos hk, p_prN _ (by omega)]; congr 1; omega
theorem mW_app : ∀ (P W : List (Nat × Nat)) (τ : fv_S), mW (P ++ W) τ → mW W τ := by
  intro P
  induction P with
  | nil => intro W τ h; exact h
  | cons x P ih => intro W τ h; exact ih W τ h.2.2
theorem m_Bcl {B : Nat → Nat} {n N p q : Nat} (hS : qS B n) (hN : 7000 ≤ N) {L : List (List Nat × Int32)} {e : qEv} (K : Bool) {P W : List (Nat × Nat)} {V' : List Int32} {τ : fv_S} (h : mC B n L e (P ++ (1, q) :: W) V' p τ) (ht : (qT B n p).1 = 41) (hP : ∀ x, x ∈ P → 1 ≤ qlv x.1) (hk : ∀ x, x ∈ W → x.1 < 256) (hl : P.length + W.length < 390) (hv : P.length + 1 ≤ V'.length) (hv2 : V'.length ≤ 400) (m1 m2 : Nat) :
    (∀ g, qpp K P V' = .inl g → mFt g τ (zB N (q01 K) m1 (m2 + 1) τ)) ∧ (∀ v V, qpp K P V' = .inr (v :: V) → ∃ τ', zB N (q01 K) m1 (m2 + 1) τ = zB N (q01 K) m1 m2 τ' ∧ mFe τ τ' ∧ mC B n L e (qus W v).1 ((qus W v).2 :: V) (qT B n p).2.2.1 τ') := by
  obtain ⟨hM, hL, he, ho, hkt, hs, h8, hp⟩ := h
  have hn := hS.1
  have hb := qT_b hS p hp
  have hlen : (P ++ (1, q) :: W).length = P.length + (W.length + 1) := by rw [List.length_append]; rfl
  obtain ⟨y, y1, y2⟩ := m_16 N (zX8_behind_0 N m2) (q01 K) τ (P ++ (1, q) :: W) N hs.1 (fun x hx => by
    rcases List.mem_append.1 hx with h | h
    · exact (qmv_bin (hP x h)).1
    · rcases List.mem_cons.1 h with h | h
      · rw [h]; show 1 < 256; omega
      · exact hk x h) (by omega) (by omega)
  have y0 : (0 : Int32) ≤ y := y2.2 ⟨(1, q), by simp, rfl⟩
  have hd : zX8_behind_0 N (m2 + 1) (q01 K) τ = zX8_behind_36 N (zX8_behind_0 N m2) N (q01 K) y τ := by
    show zX8_behind_0_b _ _ _ _ = _
    unfold zX8_behind_0_b
    rw [show zX8_isSign 41 τ = _ from m_sgn hb hkt.1 41 rfl, fv_bi_ri, show ((qT B n p).1 == 41) = true by simp [ht], if_neg (show ¬ q01 true = 0 by decide), hs.2.2.1]
    exact y1
  obtain ⟨A, C⟩ := m_pop (fun m τ => zX8_behind_36 N (zX8_behind_0 N m2) m (q01 K) y τ) K 1 (fun m k q W V τ h _ h2 h3 => m_36f N _ K y m k q W V τ h h2 h3) P V' ((1, q) :: W) τ N hs (fun x hx => ⟨hP x hx, hP x hx⟩) (by omega) hv hv2 (by simp only [List.length_cons]; omega) h8
  constructor
  · intro g hg
    apply zB_f
    rw [hd]
    exact A g hg
  · intro v V hV
    have hlV := qpp_len K P V' (v :: V) hv hV
    simp only [List.length_cons] at hlV
    obtain ⟨τ1, m', x1, s1, f1⟩ := C (v :: V) hV
    have k1 := qMt_s hkt f1
    obtain ⟨s2, f2⟩ := mS_pop s1 (by omega)
    have f12 := mFs_t f1 f2
    have k2 := qMt_s k1 f2
    have c2 : mC B n L e W (v :: V) p _ := mC_s ⟨hM, hL, he, ho, hkt, hs, h8, hp⟩ f12 s2
    obtain ⟨τ3, x3, f3, k3⟩ := m_go hS hN hp c2.1 k2
    have c3 := mC_n c2 f3 k3 hb.2.2.1
    obtain ⟨τ4, x4, s4, f4⟩ := m_una N (q01 K) W v V τ3 N c3.2.2.2.2.2.1 hk (by omega) (by omega) (by omega)
    refine ⟨τ4, ?_, mFe_t (mFe_t (mFe_s f12) (mFe_q f3)) (mFe_s f4), mC_s c3 f4 s4⟩
    unfold zB
    rw [hd, show zX8_behind_36 N (zX8_behind_0 N m2) N (q01 K) y τ = _ from x1, m_36e N _ _ _ m' _ _ τ1 s1 (Or.inr ⟨q, W, rfl⟩) (by simp only [List.length_cons]; omega)]
    unfold zX8_behind_68 zX8_unaries
    rw [if_pos y0, x3, fv_bv_rv, x4, fv_bi_ri]
/-- the end of an expression: at no sign between two, nor at a ) that closes one of its brackets -/
theorem m_Ben {B : Nat → Nat} {n N p : Nat} (hS : qS B n) (hN : 7000 ≤ N) {L : List (List Nat × Int32)} {e : qEv} (K : Bool) {P W : List (Nat × Nat)} {V' : List Int32} {τ : fv_S} (h : mC B n L e (P ++ W) V' p τ) (ht : qlv (qT B n p).1 = 0) (hW : (W = [] ∨ ((qT B n p).1 ≠ 41 ∧ ∃ q W', W = (1, q) :: W'))) (hP : ∀ x, x ∈ P → 1 ≤ qlv x.1) (hl : P.length + W.length < 390) (hv : P.length + 1 ≤ V'.length) (hv2 : V'.length ≤ 400) (m1 m2 : Nat) :
    (∀ g, qpp K P V' = .inl g → mFt g τ (zB N (q01 K) m1 (m2 + 1) τ)) ∧ (∀ V'', qpp K P V' = .inr V'' → ∃ τ', zB N (q01 K) m1 (m2 + 1) τ = zX8_expression_139 N N (q01 K) τ' ∧ mFs τ τ' ∧ mC B n L e W V'' p τ') := by
  have hh := h
  obtain ⟨hM, hL, he, ho, hkt, hs, h8, hp⟩ := h
  have hn := hS.1
  have hb := qT_b hS p hp
  have key : ∃ f : Nat → fv_S → Option fv_O, (∀ (m k q : Nat) (W : List (Nat × Nat)) (V : List Int32) (τ : fv_S), mS ((k, q) :: W) V τ → 1 ≤ qlv k → 1 ≤ qlv k → W.length < 400 → f (m + 1) τ = fv_bi (zX8_apply (q01 K) τ) (fun r s => if ¬ r = 0 then f m s else fv_ri 0 s) fv_no) ∧ zX8_behind_0 N (m2 + 1) (q01 K) τ = f N τ ∧ (∀ m' V'' τ1, mS W V'' τ1 → f (m' + 1) τ1 = fv_ri 0 τ1) := by
    by_cases c41 : (qT B n p).1 = 41
    · have hW0 : W = [] := by
        rcases hW with h | h
        · exact h
        · exact absurd c41 h.1
      subst hW0
      rw [List.append_nil] at hs hh
      obtain ⟨y, y1, y2⟩ := m_16 N (zX8_behind_0 N m2) (q01 K) τ P N hs.1 (fun x hx => (qmv_bin (hP x hx)).1) (by omega) (by omega)
      have y0 : ¬ (0 : Int32) ≤ y := fun e => by
        obtain ⟨x, hx, h1⟩ := y2.1 e
        have := (qmv_bin (hP x hx)).2
        omega
      refine ⟨fun m τ => zX8_behind_36 N (zX8_behind_0 N m2) m (q01 K) y τ, fun m k q W V τ h _ h2 h3 => m_36f N _ K y m k q W V τ h h2 h3, ?_, fun m' V'' τ1 s1 => ?_⟩
      · show zX8_behind_0_b _ _ _ _ = _
        unfold zX8_behind_0_b
        rw [show zX8_isSign 41 τ = _ from m_sgn hb hkt.1 41 rfl, fv_bi_ri, show ((qT B n p).1 == 41) = true by simp [c41], if_neg (show ¬ q01 true = 0 by decide), hs.2.2.1]
        exact y1
      · show zX8_behind_36 N (zX8_behind_0 N m2) (m' + 1) (q01 K) y τ1 = _
        rw [m_36e N _ _ _ m' _ _ τ1 s1 (Or.inl rfl) (by simp)]
        unfold zX8_behind_68
        rw [if_neg y0]
    · have hlo : qlo 0 W := by
        rcases hW with h | ⟨_, q, W', h⟩
        · rw [h]; exact trivial
        · rw [h]; exact Or.inl rfl
      refine ⟨fun m τ => zX8_behind_128 N m (q01 K) (Int32.ofNat 0) τ, fun m k q W V τ h _ h2 h3 => m_128f N K 0 m k q W V τ h (by omega) h2 h3, ?_, fun m' V'' τ1 s1 => ?_⟩
      · show zX8_behind_0_b _ _ _ _ = _
        rw [m_rk hS hp hkt N K c41, ht]
      · show zX8_behind_128 N (m' + 1) (q01 K) (Int32.ofNat 0) τ1 = _
        rw [m_128e N (q01 K) 0 m' (by omega) W V'' τ1 s1 hlo (by omega)]
        unfold zX8_behind_179
        rw [if_neg (show ¬ ¬ Int32.ofNat 0 = 0 from not_not_intro rfl)]
  obtain ⟨f, hf, e1, e2⟩ := key
  obtain ⟨A, C⟩ := m_pop f K 1 hf P V' W τ N hs (fun x hx => ⟨hP x hx, hP x hx⟩) (by omega) hv hv2 (by omega) h8
  constructor
  · intro g hg
    apply zB_f
    rw [e1]
    exact A g hg
  · intro V'' hV
    obtain ⟨τ1, m', x1, s1, f1⟩ := C V'' hV
    have c1 := mC_s hh f1 s1
    refine ⟨τ1, ?_, f1, c1⟩
    unfold zB
    rw [e1, x1, e2 m' V'' τ1 s1, fv_bi_ri, c1.2.2.2.2.2.2.1, if_pos (show (0 : Int32) ≤ 0 by decide), if_neg (not_not_intro rfl)]
