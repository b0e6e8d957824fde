set_option maxRecDepth 100000
set_option maxHeartbeats 4000000
/-! The plain law: the state's parts; the machine's relation between the class (σ) and the model (τ). -/
theorem s_gi_si (σ : fv_S) (a b : Nat) (v : Int32) : fv_gi (fv_si σ a v) b = if b = a then v else fv_gi σ b := rfl
theorem s_gi_sa (σ : fv_S) (k b : Nat) (i v : Int32) : fv_gi (fv_sa σ k i v) b = fv_gi σ b := rfl
theorem s_gi_sl (σ : fv_S) (k b : Nat) (v : Int64) : fv_gi (fv_sl σ k v) b = fv_gi σ b := rfl
theorem s_gl_si (σ : fv_S) (a b : Nat) (v : Int32) : fv_gl (fv_si σ a v) b = fv_gl σ b := rfl
theorem s_gl_sa (σ : fv_S) (k b : Nat) (i v : Int32) : fv_gl (fv_sa σ k i v) b = fv_gl σ b := rfl
theorem s_gl_sl (σ : fv_S) (k b : Nat) (v : Int64) : fv_gl (fv_sl σ k v) b = if b = k then v else fv_gl σ b := rfl
theorem s_ga_si (σ : fv_S) (a b : Nat) (v x : Int32) : fv_ga (fv_si σ a v) b x = fv_ga σ b x := rfl
theorem s_ga_sl (σ : fv_S) (a b : Nat) (v : Int64) (x : Int32) : fv_ga (fv_sl σ a v) b x = fv_ga σ b x := rfl
theorem s_ga_sa (σ : fv_S) (k j : Nat) (i v x : Int32) : fv_ga (fv_sa σ k i v) j x = if j = k then (if x.toNatClampNeg = i.toNatClampNeg then v else fv_ga σ k x) else fv_ga σ j x := by
  unfold fv_ga fv_sa fv_sw va_up upd
  dsimp only
  by_cases h : j = k
  · simp only [h, if_true]
  · simp only [h, if_false]
def p_bit (v : Int32) : Prop := v = 0 ∨ v = 1
def pRm (f g : Nat → Int32) : Prop := ∀ i, i < 65536 → pb (g i) ∧ f i = p_se (g i)
def pRr (f g : Nat → Int32) : Prop := (∀ i, i < 8 → i ≠ 6 → pb (g i) ∧ f i = g i) ∧ pb (g 6) ∧ f 8 = g 6
def pRx (f g : Nat → Int32) : Prop := (pw (g 1) ∧ f 0 = g 1) ∧ pw (g 2) ∧ f 1 = g 2
def pRp (f g : Nat → Int32) : Prop := ∀ i, i < 256 → pb (g i) ∧ f i = g i
def pRi (f g : Nat → Int32) : Prop :=
  (pw (g 75) ∧ f 4357 = g 75) ∧ (pb (g 72) ∧ f 4359 = g 72) ∧ (pb (g 73) ∧ f 4360 = g 73) ∧ (p_bit (g 77) ∧ f 4361 = g 77) ∧ (p_bit (g 78) ∧ f 4362 = g 78) ∧
  ((g 79 = 0 ∨ g 79 = 1 ∨ g 79 = 2) ∧ f 4363 = g 79) ∧ (p_bit (g 83) ∧ f 4367 = g 83) ∧ (pb (g 84) ∧ (g 83 ≠ 0 → f 4368 = g 84)) ∧ (p_bit (g 82) ∧ f 4369 = g 82) ∧ (p_bit (g 85) ∧ f 4370 = g 85)
def pFX (σ0 σ : fv_S) : Prop := (∀ k, k < 4352 ∨ 5248 ≤ k → σ.1 k = σ0.1 k) ∧ (∀ k, k < 35 ∨ 40 < k → σ.2.2.1 k = σ0.2.2.1 k) ∧ σ.2.2.2 = σ0.2.2.2
def pFM (τ0 τ : fv_S) : Prop := (∀ k, k < 72 → τ.1 k = τ0.1 k) ∧ (∀ k, k < 23 → k ≠ 13 → τ.2.2.1 k = τ0.2.2.1 k) ∧ τ.2.2.2 = τ0.2.2.2
theorem pFX_r (σ : fv_S) : pFX σ σ := ⟨fun _ _ => rfl, fun _ _ => rfl, rfl⟩
theorem pFM_r (σ : fv_S) : pFM σ σ := ⟨fun _ _ => rfl, fun _ _ _ => rfl, rfl⟩
theorem pFX_t {a b c : fv_S} (h : pFX a b) (g : pFX b c) : pFX a c := ⟨fun k hk => (g.1 k hk).trans (h.1 k hk), fun k hk => (g.2.1 k hk).trans (h.2.1 k hk), g.2.2.trans h.2.2⟩
theorem pFM_t {a b c : fv_S} (h : pFM a b) (g : pFM b c) : pFM a c := ⟨fun k hk => (g.1 k hk).trans (h.1 k hk), fun k hk hj => (g.2.1 k hk hj).trans (h.2.1 k hk hj), g.2.2.trans h.2.2⟩
theorem pFX_sa {σ0 σ : fv_S} (h : pFX σ0 σ) (k : Nat) (i v : Int32) (hk : 35 ≤ k ∧ k ≤ 40) : pFX σ0 (fv_sa σ k i v) :=
  ⟨h.1, fun j hj => (if_neg (by omega)).trans (h.2.1 j hj), h.2.2⟩
theorem pFX_si {σ0 σ : fv_S} (h : pFX σ0 σ) (k : Nat) (v : Int32) (hk : 4352 ≤ k ∧ k < 5248) : pFX σ0 (fv_si σ k v) :=
  ⟨fun j hj => (if_neg (by omega)).trans (h.1 j hj), h.2.1, h.2.2⟩
theorem pFX_sl {σ0 σ : fv_S} (h : pFX σ0 σ) (k : Nat) (v : Int64) : pFX σ0 (fv_sl σ k v) := ⟨h.1, h.2.1, h.2.2⟩
theorem pFM_sa {σ0 σ : fv_S} (h : pFM σ0 σ) (k : Nat) (i v : Int32) (hk : k = 13 ∨ 23 ≤ k) : pFM σ0 (fv_sa σ k i v) :=
  ⟨h.1, fun j hj hi => (if_neg (by omega)).trans (h.2.1 j hj hi), h.2.2⟩
theorem pFM_si {σ0 σ : fv_S} (h : pFM σ0 σ) (k : Nat) (v : Int32) (hk : 72 ≤ k) : pFM σ0 (fv_si σ k v) :=
  ⟨fun j hj => (if_neg (by omega)).trans (h.1 j hj), h.2.1, h.2.2⟩
theorem pFM_sl {σ0 σ : fv_S} (h : pFM σ0 σ) (k : Nat) (v : Int64) : pFM σ0 (fv_sl σ k v) := ⟨h.1, h.2.1, h.2.2⟩
/-- the machine's parts agree, the class's counter is p, the model's q, all else is as in σ0, τ0 -/
def pRel (σ0 τ0 : fv_S) (p q : Int32) (σ τ : fv_S) : Prop :=
  pRm (fv_gw σ 35) (fv_gw τ 13) ∧ pRr (fv_gw σ 36) (fv_gw τ 23) ∧ pRr (fv_gw σ 37) (fv_gw τ 24) ∧ pRx (fv_gw σ 38) (fv_gw τ 25) ∧ pRp (fv_gw σ 39) (fv_gw τ 26) ∧ pRp (fv_gw σ 40) (fv_gw τ 27) ∧
  pRi σ.1 τ.1 ∧ fv_gl σ 4366 = fv_gl τ 86 ∧ fv_gi σ 4358 = p ∧ fv_gi τ 76 = q ∧ pFX σ0 σ ∧ pFM τ0 τ
theorem pRm_u {f g : Nat → Int32} (h : pRm f g) (i : Nat) (v : Int32) : pRm (upd f i (p_se v)) (upd g i (v &&& 255)) := by
  intro j hj
  unfold upd
  by_cases e : j = i
  · simp only [e, if_true]; exact ⟨pb_a255 v, (p_se_a v).symm⟩
  · simp only [e, if_false]; exact h j hj
theorem pRr_u {f g : Nat → Int32} (h : pRr f g) (i : Nat) (hi : i < 8) (h6 : i ≠ 6) {v : Int32} (hv : pb v) : pRr (upd f i v) (upd g i v) := by
  refine ⟨fun j hj j6 => ?_, ?_, ?_⟩
  · unfold upd
    by_cases e : j = i
    · simp only [e, if_true]; exact ⟨hv, trivial⟩
    · simp only [e, if_false]; exact h.1 j hj j6
  · unfold upd; rw [if_neg (by omega)]; exact h.2.1
  · unfold upd; rw [if_neg (by omega), if_neg (by omega)]; exact h.2.2
theorem pRr_f {f g : Nat → Int32} (h : pRr f g) {v : Int32} (hv : pb v) : pRr (upd f 8 v) (upd g 6 v) := by
  refine ⟨fun j hj j6 => ?_, hv, rfl⟩
  unfold upd; rw [if_neg (by omega), if_neg (by omega)]; exact h.1 j hj j6
theorem pRp_u {f g : Nat → Int32} (h : pRp f g) (i : Nat) {v : Int32} (hv : pb v) : pRp (upd f i v) (upd g i v) := by
  intro j hj
  unfold upd
  by_cases e : j = i
  · simp only [e, if_true]; exact ⟨hv, trivial⟩
  · simp only [e, if_false]; exact h j hj
theorem e_m {σ0 τ0 σ τ : fv_S} {p q : Int32} (h : pRel σ0 τ0 p q σ τ) (a v : Int32) : pRel σ0 τ0 p q (fv_sa σ 35 a (p_se v)) (fv_sa τ 13 a (v &&& 255)) := by
  obtain ⟨m, r, o, x, i, u, s, l, hp, hq, fx, fm⟩ := h
  exact ⟨pRm_u m _ v, r, o, x, i, u, s, l, hp, hq, pFX_sa fx 35 _ _ (by omega), pFM_sa fm 13 _ _ (by omega)⟩
theorem e_r {σ0 τ0 σ τ : fv_S} {p q : Int32} (h : pRel σ0 τ0 p q σ τ) (a : Int32) {v : Int32} (ha : a.toNatClampNeg < 8) (h6 : a.toNatClampNeg ≠ 6) (hv : pb v) : pRel σ0 τ0 p q (fv_sa σ 36 a v) (fv_sa τ 23 a v) := by
  obtain ⟨m, r, o, x, i, u, s, l, hp, hq, fx, fm⟩ := h
  exact ⟨m, pRr_u r _ ha h6 hv, o, x, i, u, s, l, hp, hq, pFX_sa fx 36 _ _ (by omega), pFM_sa fm 23 _ _ (by omega)⟩
theorem e_f {σ0 τ0 σ τ : fv_S} {p q : Int32} (h : pRel σ0 τ0 p q σ τ) {v : Int32} (hv : pb v) : pRel σ0 τ0 p q (fv_sa σ 36 8 v) (fv_sa τ 23 6 v) := by
  obtain ⟨m, r, o, x, i, u, s, l, hp, hq, fx, fm⟩ := h
  exact ⟨m, pRr_f r hv, o, x, i, u, s, l, hp, hq, pFX_sa fx 36 _ _ (by omega), pFM_sa fm 23 _ _ (by omega)⟩
theorem e_o {σ0 τ0 σ τ : fv_S} {p q : Int32} (h : pRel σ0 τ0 p q σ τ) (a : Int32) {v : Int32} (ha : a.toNatClampNeg < 8) (h6 : a.toNatClampNeg ≠ 6) (hv : pb v) : pRel σ0 τ0 p q (fv_sa σ 37 a v) (fv_sa τ 24 a v) := by
  obtain ⟨m, r, o, x, i, u, s, l, hp, hq, fx, fm⟩ := h
  exact ⟨m, r, pRr_u o _ ha h6 hv, x, i, u, s, l, hp, hq, pFX_sa fx 37 _ _ (by omega), pFM_sa fm 24 _ _ (by omega)⟩
theorem e_of {σ0 τ0 σ τ : fv_S} {p q : Int32} (h : pRel σ0 τ0 p q σ τ) {v : Int32} (hv : pb v) : pRel σ0 τ0 p q (fv_sa σ 37 8 v) (fv_sa τ 24 6 v) := by
  obtain ⟨m, r, o, x, i, u, s, l, hp, hq, fx, fm⟩ := h
  exact ⟨m, r, pRr_f o hv, x, i, u, s, l, hp, hq, pFX_sa fx 37 _ _ (by omega), pFM_sa fm 24 _ _ (by omega)⟩
theorem e_x1 {σ0 τ0 σ τ : fv_S} {p q : Int32} (h : pRel σ0 τ0 p q σ τ) {v : Int32} (hv : pw v) : pRel σ0 τ0 p q (fv_sa σ 38 0 v) (fv_sa τ 25 1 v) := by
  obtain ⟨m, r, o, x, i, u, s, l, hp, hq, fx, fm⟩ := h
  exact ⟨m, r, o, ⟨⟨hv, rfl⟩, x.2⟩, i, u, s, l, hp, hq, pFX_sa fx 38 _ _ (by omega), pFM_sa fm 25 _ _ (by omega)⟩
theorem e_x2 {σ0 τ0 σ τ : fv_S} {p q : Int32} (h : pRel σ0 τ0 p q σ τ) {v : Int32} (hv : pw v) : pRel σ0 τ0 p q (fv_sa σ 38 1 v) (fv_sa τ 25 2 v) := by
  obtain ⟨m, r, o, x, i, u, s, l, hp, hq, fx, fm⟩ := h
  exact ⟨m, r, o, ⟨x.1, hv, rfl⟩, i, u, s, l, hp, hq, pFX_sa fx 38 _ _ (by omega), pFM_sa fm 25 _ _ (by omega)⟩
theorem e_in {σ0 τ0 σ τ : fv_S} {p q : Int32} (h : pRel σ0 τ0 p q σ τ) (a : Int32) {v : Int32} (hv : pb v) : pRel σ0 τ0 p q (fv_sa σ 39 a v) (fv_sa τ 26 a v) := by
  obtain ⟨m, r, o, x, i, u, s, l, hp, hq, fx, fm⟩ := h
  exact ⟨m, r, o, x, pRp_u i _ hv, u, s, l, hp, hq, pFX_sa fx 39 _ _ (by omega), pFM_sa fm 26 _ _ (by omega)⟩
theorem e_ou {σ0 τ0 σ τ : fv_S} {p q : Int32} (h : pRel σ0 τ0 p q σ τ) (a : Int32) {v : Int32} (hv : pb v) : pRel σ0 τ0 p q (fv_sa σ 40 a v) (fv_sa τ 27 a v) := by
  obtain ⟨m, r, o, x, i, u, s, l, hp, hq, fx, fm⟩ := h
  exact ⟨m, r, o, x, i, pRp_u u _ hv, s, l, hp, hq, pFX_sa fx 40 _ _ (by omega), pFM_sa fm 27 _ _ (by omega)⟩
theorem e_oc {σ0 τ0 σ τ : fv_S} {p q : Int32} (h : pRel σ0 τ0 p q σ τ) (v : Int64) : pRel σ0 τ0 p q (fv_sl σ 4366 v) (fv_sl τ 86 v) := by
  obtain ⟨m, r, o, x, i, u, s, l, hp, hq, fx, fm⟩ := h
  exact ⟨m, r, o, x, i, u, s, rfl, hp, hq, pFX_sl fx _ _, pFM_sl fm _ _⟩
theorem e_px {σ0 τ0 σ τ : fv_S} {p q : Int32} (h : pRel σ0 τ0 p q σ τ) (v : Int32) : pRel σ0 τ0 v q (fv_si σ 4358 v) τ := by
  obtain ⟨m, r, o, x, i, u, s, l, hp, hq, fx, fm⟩ := h
  exact ⟨m, r, o, x, i, u, s, l, rfl, hq, pFX_si fx _ _ (by omega), fm⟩
theorem e_pm {σ0 τ0 σ τ : fv_S} {p q : Int32} (h : pRel σ0 τ0 p q σ τ) (v : Int32) : pRel σ0 τ0 p v σ (fv_si τ 76 v) := by
  obtain ⟨m, r, o, x, i, u, s, l, hp, hq, fx, fm⟩ := h
  exact ⟨m, r, o, x, i, u, s, l, hp, rfl, fx, pFM_si fm _ _ (by omega)⟩
theorem e_sp {σ0 τ0 σ τ : fv_S} {p q : Int32} (h : pRel σ0 τ0 p q σ τ) {v : Int32} (hv : pw v) : pRel σ0 τ0 p q (fv_si σ 4357 v) (fv_si τ 75 v) := by
  obtain ⟨m, r, o, x, i, u, ⟨s0, s1, s2, s3, s4, s5, s6, s7, s8, s9⟩, l, hp, hq, fx, fm⟩ := h
  exact ⟨m, r, o, x, i, u, ⟨⟨hv, rfl⟩, s1, s2, s3, s4, s5, s6, s7, s8, s9⟩, l, hp, hq, pFX_si fx _ _ (by omega), pFM_si fm _ _ (by omega)⟩
theorem e_i {σ0 τ0 σ τ : fv_S} {p q : Int32} (h : pRel σ0 τ0 p q σ τ) {v : Int32} (hv : pb v) : pRel σ0 τ0 p q (fv_si σ 4359 v) (fv_si τ 72 v) := by
  obtain ⟨m, r, o, x, i, u, ⟨s0, s1, s2, s3, s4, s5, s6, s7, s8, s9⟩, l, hp, hq, fx, fm⟩ := h
  exact ⟨m, r, o, x, i, u, ⟨s0, ⟨hv, rfl⟩, s2, s3, s4, s5, s6, s7, s8, s9⟩, l, hp, hq, pFX_si fx _ _ (by omega), pFM_si fm _ _ (by omega)⟩
theorem e_rf {σ0 τ0 σ τ : fv_S} {p q : Int32} (h : pRel σ0 τ0 p q σ τ) {v : Int32} (hv : pb v) : pRel σ0 τ0 p q (fv_si σ 4360 v) (fv_si τ 73 v) := by
  obtain ⟨m, r, o, x, i, u, ⟨s0, s1, s2, s3, s4, s5, s6, s7, s8, s9⟩, l, hp, hq, fx, fm⟩ := h
  exact ⟨m, r, o, x, i, u, ⟨s0, s1, ⟨hv, rfl⟩, s3, s4, s5, s6, s7, s8, s9⟩, l, hp, hq, pFX_si fx _ _ (by omega), pFM_si fm _ _ (by omega)⟩
theorem e_l1 {σ0 τ0 σ τ : fv_S} {p q : Int32} (h : pRel σ0 τ0 p q σ τ) {v : Int32} (hv : p_bit v) : pRel σ0 τ0 p q (fv_si σ 4361 v) (fv_si τ 77 v) := by
  obtain ⟨m, r, o, x, i, u, ⟨s0, s1, s2, s3, s4, s5, s6, s7, s8, s9⟩, l, hp, hq, fx, fm⟩ := h
  exact ⟨m, r, o, x, i, u, ⟨s0, s1, s2, ⟨hv, rfl⟩, s4, s5, s6, s7, s8, s9⟩, l, hp, hq, pFX_si fx _ _ (by omega), pFM_si fm _ _ (by omega)⟩
theorem e_l2 {σ0 τ0 σ τ : fv_S} {p q : Int32} (h : pRel σ0 τ0 p q σ τ) {v : Int32} (hv : p_bit v) : pRel σ0 τ0 p q (fv_si σ 4362 v) (fv_si τ 78 v) := by
  obtain ⟨m, r, o, x, i, u, ⟨s0, s1, s2, s3, s4, s5, s6, s7, s8, s9⟩, l, hp, hq, fx, fm⟩ := h
  exact ⟨m, r, o, x, i, u, ⟨s0, s1, s2, s3, ⟨hv, rfl⟩, s5, s6, s7, s8, s9⟩, l, hp, hq, pFX_si fx _ _ (by omega), pFM_si fm _ _ (by omega)⟩
theorem e_md {σ0 τ0 σ τ : fv_S} {p q : Int32} (h : pRel σ0 τ0 p q σ τ) {v : Int32} (hv : v = 0 ∨ v = 1 ∨ v = 2) : pRel σ0 τ0 p q (fv_si σ 4363 v) (fv_si τ 79 v) := by
  obtain ⟨m, r, o, x, i, u, ⟨s0, s1, s2, s3, s4, s5, s6, s7, s8, s9⟩, l, hp, hq, fx, fm⟩ := h
  exact ⟨m, r, o, x, i, u, ⟨s0, s1, s2, s3, s4, ⟨hv, rfl⟩, s6, s7, s8, s9⟩, l, hp, hq, pFX_si fx _ _ (by omega), pFM_si fm _ _ (by omega)⟩
theorem e_hd {σ0 τ0 σ τ : fv_S} {p q : Int32} (h : pRel σ0 τ0 p q σ τ) {v : Int32} (hv : p_bit v) : pRel σ0 τ0 p q (fv_si σ 4369 v) (fv_si τ 82 v) := by
  obtain ⟨m, r, o, x, i, u, ⟨s0, s1, s2, s3, s4, s5, s6, s7, s8, s9⟩, l, hp, hq, fx, fm⟩ := h
  exact ⟨m, r, o, x, i, u, ⟨s0, s1, s2, s3, s4, s5, s6, s7, ⟨hv, rfl⟩, s9⟩, l, hp, hq, pFX_si fx _ _ (by omega), pFM_si fm _ _ (by omega)⟩
theorem e_he {σ0 τ0 σ τ : fv_S} {p q : Int32} (h : pRel σ0 τ0 p q σ τ) {v : Int32} (hv : p_bit v) : pRel σ0 τ0 p q (fv_si σ 4370 v) (fv_si τ 85 v) := by
  obtain ⟨m, r, o, x, i, u, ⟨s0, s1, s2, s3, s4, s5, s6, s7, s8, s9⟩, l, hp, hq, fx, fm⟩ := h
  exact ⟨m, r, o, x, i, u, ⟨s0, s1, s2, s3, s4, s5, s6, s7, s8, ⟨hv, rfl⟩⟩, l, hp, hq, pFX_si fx _ _ (by omega), pFM_si fm _ _ (by omega)⟩
theorem e_pl0 {σ0 τ0 σ τ : fv_S} {p q : Int32} (h : pRel σ0 τ0 p q σ τ) : pRel σ0 τ0 p q (fv_si σ 4367 0) (fv_si τ 83 0) := by
  obtain ⟨m, r, o, x, i, u, ⟨s0, s1, s2, s3, s4, s5, s6, s7, s8, s9⟩, l, hp, hq, fx, fm⟩ := h
  exact ⟨m, r, o, x, i, u, ⟨s0, s1, s2, s3, s4, s5, ⟨Or.inl rfl, rfl⟩, ⟨s7.1, fun e => absurd rfl e⟩, s8, s9⟩, l, hp, hq, pFX_si fx _ _ (by omega), pFM_si fm _ _ (by omega)⟩
theorem e_pl1 {σ0 τ0 σ τ : fv_S} {p q : Int32} (h : pRel σ0 τ0 p q σ τ) {v : Int32} (hv : pb v) : pRel σ0 τ0 p q (fv_si (fv_si σ 4367 1) 4368 v) (fv_si (fv_si τ 83 1) 84 v) := by
  obtain ⟨m, r, o, x, i, u, ⟨s0, s1, s2, s3, s4, s5, s6, s7, s8, s9⟩, l, hp, hq, fx, fm⟩ := h
  exact ⟨m, r, o, x, i, u, ⟨s0, s1, s2, s3, s4, s5, ⟨Or.inr rfl, rfl⟩, ⟨hv, fun _ => rfl⟩, s8, s9⟩, l, hp, hq, pFX_si (pFX_si fx _ _ (by omega)) _ _ (by omega), pFM_si (pFM_si fm _ _ (by omega)) _ _ (by omega)⟩
theorem g_m {σ0 τ0 σ τ : fv_S} {p q : Int32} (h : pRel σ0 τ0 p q σ τ) (a : Int32) : fv_ga σ 35 (a &&& 65535) &&& 255 = fv_ga τ 13 (a &&& 65535) ∧ pb (fv_ga τ 13 (a &&& 65535)) := by
  have := h.1 (a &&& 65535).toNatClampNeg (p_bnd16 (pw_a a)).2.2
  refine ⟨?_, this.1⟩
  show fv_gw σ 35 _ &&& 255 = fv_gw τ 13 _
  rw [this.2, p_se255 this.1]
theorem g_r {σ0 τ0 σ τ : fv_S} {p q : Int32} (h : pRel σ0 τ0 p q σ τ) (a : Int32) (ha : a.toNatClampNeg < 8) (h6 : a.toNatClampNeg ≠ 6) : fv_ga σ 36 a = fv_ga τ 23 a ∧ pb (fv_ga τ 23 a) := ⟨(h.2.1.1 _ ha h6).2, (h.2.1.1 _ ha h6).1⟩
theorem g_f {σ0 τ0 σ τ : fv_S} {p q : Int32} (h : pRel σ0 τ0 p q σ τ) : fv_ga σ 36 8 = fv_ga τ 23 6 ∧ pb (fv_ga τ 23 6) := ⟨h.2.1.2.2, h.2.1.2.1⟩
theorem g_o {σ0 τ0 σ τ : fv_S} {p q : Int32} (h : pRel σ0 τ0 p q σ τ) (a : Int32) (ha : a.toNatClampNeg < 8) (h6 : a.toNatClampNeg ≠ 6) : fv_ga σ 37 a = fv_ga τ 24 a ∧ pb (fv_ga τ 24 a) := ⟨(h.2.2.1.1 _ ha h6).2, (h.2.2.1.1 _ ha h6).1⟩
theorem g_of {σ0 τ0 σ τ : fv_S} {p q : Int32} (h : pRel σ0 τ0 p q σ τ) : fv_ga σ 37 8 = fv_ga τ 24 6 ∧ pb (fv_ga τ 24 6) := ⟨h.2.2.1.2.2, h.2.2.1.2.1⟩
theorem g_x1 {σ0 τ0 σ τ : fv_S} {p q : Int32} (h : pRel σ0 τ0 p q σ τ) : fv_ga σ 38 0 = fv_ga τ 25 1 ∧ pw (fv_ga τ 25 1) := ⟨h.2.2.2.1.1.2, h.2.2.2.1.1.1⟩
theorem g_x2 {σ0 τ0 σ τ : fv_S} {p q : Int32} (h : pRel σ0 τ0 p q σ τ) : fv_ga σ 38 1 = fv_ga τ 25 2 ∧ pw (fv_ga τ 25 2) := ⟨h.2.2.2.1.2.2, h.2.2.2.1.2.1⟩
theorem g_in {σ0 τ0 σ τ : fv_S} {p q : Int32} (h : pRel σ0 τ0 p q σ τ) (a : Int32) (ha : pb a) : fv_ga σ 39 a = fv_ga τ 26 a ∧ pb (fv_ga τ 26 a) := ⟨(h.2.2.2.2.1 _ (p_bnd8 ha).2.2).2, (h.2.2.2.2.1 _ (p_bnd8 ha).2.2).1⟩
theorem g_ou {σ0 τ0 σ τ : fv_S} {p q : Int32} (h : pRel σ0 τ0 p q σ τ) (a : Int32) (ha : pb a) : fv_ga σ 40 a = fv_ga τ 27 a ∧ pb (fv_ga τ 27 a) := ⟨(h.2.2.2.2.2.1 _ (p_bnd8 ha).2.2).2, (h.2.2.2.2.2.1 _ (p_bnd8 ha).2.2).1⟩
theorem g_i {σ0 τ0 σ τ : fv_S} {p q : Int32} (h : pRel σ0 τ0 p q σ τ) : pRi σ.1 τ.1 := h.2.2.2.2.2.2.1
theorem g_oc {σ0 τ0 σ τ : fv_S} {p q : Int32} (h : pRel σ0 τ0 p q σ τ) : fv_gl σ 4366 = fv_gl τ 86 := h.2.2.2.2.2.2.2.1
theorem g_px {σ0 τ0 σ τ : fv_S} {p q : Int32} (h : pRel σ0 τ0 p q σ τ) : fv_gi σ 4358 = p := h.2.2.2.2.2.2.2.2.1
theorem g_pm {σ0 τ0 σ τ : fv_S} {p q : Int32} (h : pRel σ0 τ0 p q σ τ) : fv_gi τ 76 = q := h.2.2.2.2.2.2.2.2.2.1
theorem g_fx {σ0 τ0 σ τ : fv_S} {p q : Int32} (h : pRel σ0 τ0 p q σ τ) : pFX σ0 σ := h.2.2.2.2.2.2.2.2.2.2.1
theorem g_fm {σ0 τ0 σ τ : fv_S} {p q : Int32} (h : pRel σ0 τ0 p q σ τ) : pFM τ0 τ := h.2.2.2.2.2.2.2.2.2.2.2
theorem g_sp {σ0 τ0 σ τ : fv_S} {p q : Int32} (h : pRel σ0 τ0 p q σ τ) : fv_gi σ 4357 = fv_gi τ 75 ∧ pw (fv_gi τ 75) := ⟨(g_i h).1.2, (g_i h).1.1⟩
theorem g_k {σ0 τ0 σ τ : fv_S} {p q : Int32} (h : pRel σ0 τ0 p q σ τ) (k : Nat) (hk : k < 72) : fv_gi τ k = fv_gi τ0 k := (g_fm h).1 k hk
