set_option maxRecDepth 100000
set_option maxHeartbeats 4000000
/-! The plain law: names that are reserved, labels; the class finds them. -/
theorem p_se_inj {a b : Nat} (ha : a < 256) (hb : b < 256) : p_se (Int32.ofNat a) = p_se (Int32.ofNat b) ↔ a = b := by
  refine ⟨fun h => ?_, fun h => by rw [h]⟩
  have k : ∀ a, a < 256 → (p_se (Int32.ofNat a) &&& 255) = Int32.ofNat a := by decide +kernel
  have := congrArg (· &&& 255) h
  simp only [k a ha, k b hb] at this
  exact (p_eqN a b (by omega) (by omega)).1 this
theorem p_se_lt {c b : Nat} (hc : c < 128) (hb : b < 256) : Int32.ofNat c = p_se (Int32.ofNat b) ↔ c = b := by
  have k : ∀ c, c < 128 → Int32.ofNat c = p_se (Int32.ofNat c) := by decide +kernel
  rw [k c hc]; exact p_se_inj (by omega) hb
noncomputable def qcd (P : Prop) : Bool := @decide P (Classical.propDecidable P)
theorem qcd_t {P : Prop} (h : P) : qcd P = true := @decide_eq_true P (Classical.propDecidable P) h
theorem qcd_f {P : Prop} (h : ¬ P) : qcd P = false := @decide_eq_false P (Classical.propDecidable P) h
theorem qcd_d {P Q : Prop} [d : Decidable Q] (h : P ↔ Q) : qcd P = decide Q := by
  by_cases c : Q
  · rw [decide_eq_true c, qcd_t (h.2 c)]
  · rw [decide_eq_false c, qcd_f (fun e => c (h.1 e))]
theorem qcd_c {P Q : Prop} (h : P ↔ Q) : qcd P = qcd Q := by
  by_cases c : Q
  · rw [qcd_t c, qcd_t (h.2 c)]
  · rw [qcd_f c, qcd_f (fun e => c (h.1 e))]
/-- which of the reserved names a name is; 99 for none -/
def qrf (l : List Nat) : Nat → Nat → Nat
  | 0, j => j
  | f + 1, j => if p_nm j = l then j else qrf l f (j + 1)
def qri (l : List Nat) : Nat := qrf l 99 0
theorem qrf_s (l : List Nat) : ∀ f j, j ≤ qrf l f j ∧ qrf l f j ≤ j + f ∧ (qrf l f j < j + f → p_nm (qrf l f j) = l) ∧ (∀ i, j ≤ i → i < qrf l f j → p_nm i ≠ l) := by
  intro f
  induction f with
  | zero => intro j; exact ⟨Nat.le_refl _, Nat.le_refl _, fun h => absurd (show j < j + 0 from h) (by omega), fun i h1 h2 => absurd (show i < j from h2) (by omega)⟩
  | succ f ih =>
    intro j
    by_cases c : p_nm j = l
    · have e : qrf l (f + 1) j = j := by show (if p_nm j = l then j else _) = j; rw [if_pos c]
      rw [e]; exact ⟨Nat.le_refl _, by omega, fun _ => c, fun i h1 h2 => by omega⟩
    · have e : qrf l (f + 1) j = qrf l f (j + 1) := by show (if p_nm j = l then j else _) = _; rw [if_neg c]
      rw [e]
      obtain ⟨a1, a2, a3, a4⟩ := ih (j + 1)
      refine ⟨by omega, by omega, fun h => a3 (by omega), fun i h1 h2 => ?_⟩
      by_cases c2 : i = j
      · rw [c2]; exact c
      · exact a4 i (by omega) h2
theorem qri_le (l : List Nat) : qri l ≤ 99 := by have := (qrf_s l 99 0).2.1; unfold qri; omega
theorem qri_lt {l : List Nat} (h : qri l < 99) : p_nm (qri l) = l := (qrf_s l 99 0).2.2.1 (by unfold qri at h; omega)
theorem qri_no {l : List Nat} (h : qri l = 99) (j : Nat) (hj : j < 99) : p_nm j ≠ l := (qrf_s l 99 0).2.2.2 j (by omega) (by unfold qri at h; omega)
theorem k_nmd : ∀ j, j < 99 → qri (p_nm j) = j := by decide +kernel
theorem qri_eq {l : List Nat} {j : Nat} (hj : j < 99) : qri l = j ↔ l = p_nm j :=
  ⟨fun h => by rw [← h]; exact (qri_lt (by omega)).symm, fun h => by rw [h]; exact k_nmd j hj⟩
theorem qnm_get (B : Nat → Nat) : ∀ k q j, j < k → (qnm B q k)[j]? = some (qcap (B (q + j))) := by
  intro k
  induction k with
  | zero => intro q j h; omega
  | succ k ih =>
    intro q j h
    cases j with
    | zero => rfl
    | succ j =>
      show (qnm B (q + 1) k)[j]? = _
      rw [ih (q + 1) j (by omega), show q + 1 + j = q + (j + 1) by omega]
theorem p_nm_get (s j : Nat) (h : j < fv_sl0 s) : (p_nm s)[j]? = some (p_ch s j) := by
  unfold p_nm; rw [List.getElem?_map, List.getElem?_range h]; rfl
theorem p_nm_len (s : Nat) : (p_nm s).length = fv_sl0 s := by unfold p_nm; rw [List.length_map, List.length_range]
theorem qnm_eq (B : Nat → Nat) (q k : Nat) (l : List Nat) : l = qnm B q k ↔ l.length = k ∧ ∀ j c, j < k → l[j]? = some c → c = qcap (B (q + j)) := by
  constructor
  · intro h
    refine ⟨by rw [h, qnm_len], fun j c hj hc => ?_⟩
    rw [h, qnm_get B k q j hj] at hc; exact (Option.some.inj hc).symm
  · rintro ⟨h1, h2⟩
    apply List.ext_getElem?
    intro j
    by_cases c : j < k
    · rw [qnm_get B k q j c]
      have : l[j]? = some l[j] := List.getElem?_eq_getElem (by omega)
      rw [this, h2 j _ c this]
    · rw [List.getElem?_eq_none (by omega), List.getElem?_eq_none (by rw [qnm_len]; omega)]
theorem x_like {B : Nat → Nat} {n q k : Nat} (hS : qS B n) (s : Nat) (hs : s < 99) {N : Nat} (hN : 7000 ≤ N) (hk : q + k ≤ n) {σ : fv_S} (h : qX B n σ) : zX1_isLike N s (Int32.ofNat q) (Int32.ofNat k) σ = fv_ri (q01 (decide (p_nm s = qnm B q k))) σ := by
  have hn := hS.1
  have l13 := k_len s (by omega)
  have lp : ∀ d i m, k - i = d → i ≤ k → d + 1 ≤ m → fv_sl0 s = k → zX1_isLike_18 N m s (Int32.ofNat q) (Int32.ofNat k) 1 (Int32.ofNat i) σ = fv_ri (q01 (decide (∀ j, j < k → i ≤ j → p_ch s j = qcap (B (q + j))))) σ := by
    intro d
    induction d with
    | zero =>
      intro i m e hi hm el
      obtain ⟨m, rfl⟩ : ∃ j, m = j + 1 := ⟨m - 1, by omega⟩
      show zX1_isLike_18_b _ _ _ _ _ _ _ _ = _
      unfold zX1_isLike_18_b
      rw [if_pos ((p_leN k i (by omega) (by omega)).2 (by omega)), if_pos (Or.inr rfl), decide_eq_true (fun j h1 h2 => by omega)]; rfl
    | succ d ih =>
      intro i m e hi hm el
      obtain ⟨m, rfl⟩ : ∃ j, m = j + 1 := ⟨m - 1, by omega⟩
      obtain ⟨i1, i2⟩ := p_inN (q + i) 6000 (by omega) (by omega)
      have hc := (k_ch s (by omega) i (by omega) (by omega)).2.2
      have hv : fv_ga σ 15 (Int32.ofNat (q + i)) = p_se (Int32.ofNat (qcap (B (q + i)))) := by
        show fv_gw σ 15 (Int32.ofNat (q + i)).toNatClampNeg = _; rw [i2, (h.2 (q + i) (by omega)).2]
      show zX1_isLike_18_b _ _ _ _ _ _ _ _ = _
      unfold zX1_isLike_18_b
      rw [if_neg (show ¬ Int32.ofNat k ≤ Int32.ofNat i from fun e => by have := (p_leN k i (by omega) (by omega)).1 e; omega), if_neg (show ¬ (1 : Int32) = 0 by decide), if_pos (show s < 102 by omega), x_chr s i (by omega) (by omega), fv_bi_ri, ← Int32.ofNat_add, if_pos i1, hv, p_sucN]
      have eq := p_se_lt hc (qcap_lt _ (hS.2.1 (q + i)))
      by_cases c : p_ch s i = qcap (B (q + i))
      · rw [if_neg (not_not_intro (eq.2 c)), ih (i + 1) m (by omega) (by omega) (by omega) el]
        congr 2
        apply decide_eq_decide.2
        constructor
        · intro hh j h1 h2
          by_cases c2 : j = i
          · rw [c2]; exact c
          · exact hh j h1 (by omega)
        · intro hh j h1 h2; exact hh j h1 (by omega)
      · rw [if_pos (fun e => c (eq.1 e)), decide_eq_false (fun hh => c (hh i (by omega) (by omega)))]
        obtain ⟨m, rfl⟩ : ∃ j, m = j + 1 := ⟨m - 1, by omega⟩
        show zX1_isLike_18_b _ _ _ _ _ _ _ _ = _
        unfold zX1_isLike_18_b
        by_cases c3 : Int32.ofNat k ≤ Int32.ofNat (i + 1)
        · rw [if_pos c3, if_pos (Or.inl rfl)]; rfl
        · rw [if_neg c3, if_pos rfl, if_pos (Or.inl rfl)]; rfl
  have e := qnm_eq B q k (p_nm s)
  rw [p_nm_len] at e
  unfold zX1_isLike
  rw [if_pos (show s < 102 by omega), x_len s (by omega), fv_bi_ri]
  by_cases c : fv_sl0 s = k
  · rw [if_neg (show ¬ ¬ Int32.ofNat (fv_sl0 s) = Int32.ofNat k from not_not_intro (by rw [c])), show zX1_isLike_18 N N s (Int32.ofNat q) (Int32.ofNat k) 1 0 σ = _ from lp k 0 N (by omega) (by omega) (by omega) c]
    congr 2
    apply decide_eq_decide.2
    rw [e]
    constructor
    · intro hh
      refine ⟨c, fun j c2 hj hc => ?_⟩
      rw [p_nm_get s j (by omega)] at hc
      rw [← Option.some.inj hc]; exact hh j hj (by omega)
    · rintro ⟨_, hh⟩ j h1 _
      exact hh j _ h1 (p_nm_get s j (by omega))
  · rw [if_pos (show ¬ Int32.ofNat (fv_sl0 s) = Int32.ofNat k from fun e => c ((p_eqN _ _ (by omega) (by omega)).1 e)), decide_eq_false (fun hh => c (e.1 hh).1)]
    obtain ⟨m, rfl⟩ : ∃ j, N = j + 1 := ⟨N - 1, by omega⟩
    show zX1_isLike_18_b _ _ _ _ _ _ _ _ = _
    unfold zX1_isLike_18_b
    by_cases c3 : Int32.ofNat k ≤ 0
    · rw [if_pos c3, if_pos (Or.inl rfl)]; rfl
    · rw [if_neg c3, if_pos rfl, if_pos (Or.inl rfl)]; rfl
/-- an index, or -1 -/
def qxi (r b : Nat) : Int32 := if r < b then Int32.ofNat r else -1
theorem qxi_neg (r b : Nat) (hb : b ≤ 100000) : qxi r b < 0 ↔ ¬ r < b := by
  unfold qxi
  by_cases c : r < b
  · rw [if_pos c]; exact ⟨fun e => absurd ((p_ltN r 0 (by omega) (by omega)).1 e) (by omega), fun e => absurd c e⟩
  · rw [if_neg c]; exact ⟨fun _ => c, fun _ => by decide⟩
theorem qxi_nn (r b : Nat) (hb : b ≤ 100000) : (0 : Int32) ≤ qxi r b ↔ r < b := by
  unfold qxi
  by_cases c : r < b
  · rw [if_pos c]; exact ⟨fun _ => c, fun _ => (p_leN 0 r (by omega) (by omega)).2 (by omega)⟩
  · rw [if_neg c]; exact ⟨fun e => absurd e (by decide), fun e => absurd e c⟩
theorem qxi_eq (r b c : Nat) (hb : b ≤ 100000) (hc : c < b) (hr : r ≤ b) : qxi r b = Int32.ofNat c ↔ r = c := by
  unfold qxi
  by_cases d : r < b
  · rw [if_pos d]; exact p_eqN r c (by omega) (by omega)
  · rw [if_neg d]
    refine ⟨fun e => ?_, fun e => by omega⟩
    have := congrArg Int32.toInt e
    rw [p_ofn c (by omega), show (-1 : Int32).toInt = -1 by decide] at this; omega
theorem x_find {B : Nat → Nat} {n q k : Nat} (hS : qS B n) {N : Nat} (hN : 7000 ≤ N) (hk : q + k ≤ n) {σ : fv_S} (h : qX B n σ) : zX1_find N (Int32.ofNat q) (Int32.ofNat k) σ = fv_ri (qxi (qri (qnm B q k)) 99) σ := by
  have lp : ∀ d j m, 99 - j = d → j ≤ 99 → d + 1 ≤ m → zX1_find_3 N m (Int32.ofNat q) (Int32.ofNat k) (Int32.ofNat j) σ = fv_ri (qxi (qrf (qnm B q k) d j) 99) σ := by
    intro d
    induction d with
    | zero =>
      intro j m e hj hm
      obtain ⟨m, rfl⟩ : ∃ j, m = j + 1 := ⟨m - 1, by omega⟩
      have : j = 99 := by omega
      subst this
      show zX1_find_3_b _ _ _ _ _ _ = _
      unfold zX1_find_3_b zX1_find_35
      rw [if_pos (show (99 : Int32) ≤ Int32.ofNat 99 by decide), if_pos (show (99 : Int32) ≤ Int32.ofNat 99 by decide)]; rfl
    | succ d ih =>
      intro j m e hj hm
      obtain ⟨m, rfl⟩ : ∃ j, m = j + 1 := ⟨m - 1, by omega⟩
      obtain ⟨i1, i2⟩ := p_inN j 99 (by omega) (by omega)
      have n99 : ¬ (99 : Int32) ≤ Int32.ofNat j := fun e => by have := (p_leN 99 j (by omega) (by omega)).1 e; omega
      show zX1_find_3_b _ _ _ _ _ _ = fv_ri (qxi (if p_nm j = qnm B q k then j else qrf (qnm B q k) d (j + 1)) 99) σ
      unfold zX1_find_3_b zX1_find_35
      rw [if_neg n99, if_pos i1, i2, x_like hS j (by omega) hN hk h, fv_bi_ri, p_sucN]
      by_cases c : p_nm j = qnm B q k
      · rw [decide_eq_true c, if_pos (show ¬ q01 true = 0 by decide), if_neg n99, if_pos c]
        unfold qxi; rw [if_pos (by omega)]
      · rw [decide_eq_false c, if_neg (show ¬ ¬ q01 false = 0 by decide), if_neg c]
        exact ih (j + 1) m (by omega) (by omega) (by omega)
  unfold zX1_find
  exact lp 99 0 N rfl (by omega) (by omega)
theorem x_res {B : Nat → Nat} {n p : Nat} (hS : qS B n) {N : Nat} (hN : 7000 ≤ N) {t : qTok} (hb : qTb n p t) {σ : fv_S} (h : qX B n σ) (k : qXt n t σ) (h1 : t.1 = 1) : zX3_reserved N σ = fv_ri (qxi (qri (qna B t)) 99) σ := by
  unfold zX3_reserved
  have h2 := hb.2.2.2.1 (by omega) (by omega)
  rw [k.2.2.1, k.2.2.2.1 (by omega) (by omega), x_find hS hN (by have := hb.2.2.1; omega) h, fv_bi_ri]; rfl
/-- the class's labels -/
def xL (L : List (List Nat × Int32)) (σ : fv_S) : Prop := fv_gi σ 2051 = Int32.ofNat L.length ∧ L.length ≤ 200 ∧ ∀ i e, L[i]? = some e → e.1.length ≤ 12 ∧ fv_gw σ 18 i = Int32.ofNat e.1.length ∧ fv_gw σ 19 i = e.2 ∧ ∀ j c, e.1[j]? = some c → fv_gw σ 17 (12 * i + j) = p_se (Int32.ofNat c) ∧ c < 256
def qlf (l : List Nat) : List (List Nat × Int32) → Nat
  | [] => 0
  | e :: L => if e.1 = l then 0 else qlf l L + 1
theorem qlf_le (l : List Nat) : ∀ L, qlf l L ≤ L.length := by
  intro L
  induction L with
  | nil => exact Nat.le_refl _
  | cons e L ih => show (if e.1 = l then 0 else qlf l L + 1) ≤ L.length + 1; split <;> omega
theorem qlf_drop (l : List Nat) (L : List (List Nat × Int32)) (i : Nat) (e : List Nat × Int32) (he : L[i]? = some e) : qlf l (L.drop i) = if e.1 = l then 0 else qlf l (L.drop (i + 1)) + 1 := by
  have hi : i < L.length := by
    apply Decidable.byContradiction; intro c; rw [List.getElem?_eq_none (by omega)] at he; exact absurd he (by simp)
  rw [List.drop_eq_getElem_cons hi]
  rw [List.getElem?_eq_getElem hi] at he
  rw [Option.some.inj he]; rfl
theorem x_lf {B : Nat → Nat} {n q k : Nat} (hS : qS B n) {N : Nat} (hN : 7000 ≤ N) (hk : q + k ≤ n) {σ : fv_S} (h : qX B n σ) {L : List (List Nat × Int32)} (hL : xL L σ) : zX5_find N (Int32.ofNat q) (Int32.ofNat k) σ = fv_ri (qxi (qlf (qnm B q k) L) L.length) σ := by
  have hn := hS.1
  have hl := hL.2.1
  have nam : ∀ (i : Nat) (e : List Nat × Int32), L[i]? = some e → i < L.length → zX5_isNamed N (Int32.ofNat i) (Int32.ofNat q) (Int32.ofNat k) σ = fv_ri (q01 (decide (e.1 = qnm B q k))) σ := by
    intro i e he hi
    obtain ⟨e1, e2, e3, e4⟩ := hL.2.2 i e he
    have lp : ∀ d j m, k - j = d → j ≤ k → d + 1 ≤ m → e.1.length = k → zX5_isNamed_21 N m (Int32.ofNat i) (Int32.ofNat q) (Int32.ofNat k) 1 (Int32.ofNat j) σ = fv_ri (q01 (qcd (∀ x c, x < k → j ≤ x → e.1[x]? = some c → c = qcap (B (q + x))))) σ := by
      intro d
      induction d with
      | zero =>
        intro j m e hi hm el
        obtain ⟨m, rfl⟩ : ∃ j, m = j + 1 := ⟨m - 1, by omega⟩
        show zX5_isNamed_21_b _ _ _ _ _ _ _ _ = _
        unfold zX5_isNamed_21_b
        rw [if_pos ((p_leN k j (by omega) (by omega)).2 (by omega)), if_pos (Or.inr rfl), qcd_t (fun x c h1 h2 => by omega)]; rfl
      | succ d ih =>
        intro j m ee hj hm el
        obtain ⟨m, rfl⟩ : ∃ j, m = j + 1 := ⟨m - 1, by omega⟩
        obtain ⟨i1, i2⟩ := p_inN (q + j) 6000 (by omega) (by omega)
        obtain ⟨j1, j2⟩ := p_inN (12 * i + j) 2400 (by omega) (by omega)
        have hc : e.1[j]? = some e.1[j] := List.getElem?_eq_getElem (by omega)
        obtain ⟨w1, w2⟩ := e4 j _ hc
        have hv : fv_ga σ 15 (Int32.ofNat (q + j)) = p_se (Int32.ofNat (qcap (B (q + j)))) := by
          show fv_gw σ 15 (Int32.ofNat (q + j)).toNatClampNeg = _; rw [i2, (h.2 (q + j) (by omega)).2]
        have hw : fv_ga σ 17 (Int32.ofNat (12 * i + j)) = p_se (Int32.ofNat e.1[j]) := by
          show fv_gw σ 17 (Int32.ofNat (12 * i + j)).toNatClampNeg = _; rw [j2, w1]
        show zX5_isNamed_21_b _ _ _ _ _ _ _ _ = _
        unfold zX5_isNamed_21_b
        rw [if_neg (show ¬ Int32.ofNat k ≤ Int32.ofNat j from fun e => by have := (p_leN k j (by omega) (by omega)).1 e; omega), if_neg (show ¬ (1 : Int32) = 0 by decide), show (12 : Int32) * Int32.ofNat i + Int32.ofNat j = Int32.ofNat (12 * i + j) by rw [Int32.ofNat_add, Int32.ofNat_mul]; rfl, if_pos j1, ← Int32.ofNat_add, if_pos i1, hv, hw, p_sucN]
        have eq := p_se_inj w2 (qcap_lt _ (hS.2.1 (q + j)))
        by_cases c : e.1[j] = qcap (B (q + j))
        · rw [if_neg (not_not_intro (eq.2 c)), ih (j + 1) m (by omega) (by omega) (by omega) el]
          congr 2
          apply qcd_c
          constructor
          · intro hh x c2 h1 h2 h3
            by_cases c3 : x = j
            · subst c3; rw [hc] at h3; rw [← Option.some.inj h3]; exact c
            · exact hh x c2 h1 (by omega) h3
          · intro hh x c2 h1 h2 h3; exact hh x c2 h1 (by omega) h3
        · rw [if_pos (fun e => c (eq.1 e)), qcd_f (fun hh => c (hh j _ (by omega) (by omega) hc))]
          obtain ⟨m, rfl⟩ : ∃ j, m = j + 1 := ⟨m - 1, by omega⟩
          show zX5_isNamed_21_b _ _ _ _ _ _ _ _ = _
          unfold zX5_isNamed_21_b
          by_cases c3 : Int32.ofNat k ≤ Int32.ofNat (j + 1)
          · rw [if_pos c3, if_pos (Or.inl rfl)]; rfl
          · rw [if_neg c3, if_pos rfl, if_pos (Or.inl rfl)]; rfl
    have ee := qnm_eq B q k e.1
    obtain ⟨i1, i2⟩ := p_inN i 200 (by omega) (by omega)
    unfold zX5_isNamed
    rw [if_pos i1, show fv_ga σ 18 (Int32.ofNat i) = Int32.ofNat e.1.length by show fv_gw σ 18 (Int32.ofNat i).toNatClampNeg = _; rw [i2, e2]]
    by_cases c : e.1.length = k
    · rw [if_neg (show ¬ ¬ Int32.ofNat e.1.length = Int32.ofNat k from not_not_intro (by rw [c])), show zX5_isNamed_21 N N (Int32.ofNat i) (Int32.ofNat q) (Int32.ofNat k) 1 0 σ = _ from lp k 0 N (by omega) (by omega) (by omega) c]
      congr 2
      apply qcd_d
      rw [ee]
      exact ⟨fun hh => ⟨c, fun j c2 h1 h2 => hh j c2 h1 (by omega) h2⟩, fun hh x c2 h1 _ h2 => hh.2 x c2 h1 h2⟩
    · rw [if_pos (show ¬ Int32.ofNat e.1.length = Int32.ofNat k from fun e => c ((p_eqN _ _ (by omega) (by omega)).1 e)), decide_eq_false (fun hh => c (ee.1 hh).1)]
      obtain ⟨m, rfl⟩ : ∃ j, N = j + 1 := ⟨N - 1, by omega⟩
      show zX5_isNamed_21_b _ _ _ _ _ _ _ _ = _
      unfold zX5_isNamed_21_b
      by_cases c3 : Int32.ofNat k ≤ 0
      · rw [if_pos c3, if_pos (Or.inl rfl)]; rfl
      · rw [if_neg c3, if_pos rfl, if_pos (Or.inl rfl)]; rfl
  have lp : ∀ d j m, L.length - j = d → j ≤ L.length → d + 1 ≤ m → zX5_find_3 N m (Int32.ofNat q) (Int32.ofNat k) (Int32.ofNat j) σ = fv_ri (qxi (j + qlf (qnm B q k) (L.drop j)) L.length) σ := by
    intro d
    induction d with
    | zero =>
      intro j m e hj hm
      obtain ⟨m, rfl⟩ : ∃ j, m = j + 1 := ⟨m - 1, by omega⟩
      have i0 := (p_leN L.length j (by omega) (by omega)).2 (by omega)
      show zX5_find_3_b _ _ _ _ _ _ = _
      unfold zX5_find_3_b zX5_find_30
      rw [hL.1, if_pos i0, if_pos i0]
      unfold qxi; rw [if_neg (by omega)]
    | succ d ih =>
      intro j m e hj hm
      obtain ⟨m, rfl⟩ : ∃ j, m = j + 1 := ⟨m - 1, by omega⟩
      have i0 : ¬ Int32.ofNat L.length ≤ Int32.ofNat j := fun e => by have := (p_leN L.length j (by omega) (by omega)).1 e; omega
      have he : L[j]? = some L[j] := List.getElem?_eq_getElem (by omega)
      show zX5_find_3_b _ _ _ _ _ _ = _
      unfold zX5_find_3_b zX5_find_30
      rw [hL.1, if_neg i0, nam j _ he (by omega), fv_bi_ri, hL.1, p_sucN, qlf_drop _ L j _ he]
      by_cases c : L[j].1 = qnm B q k
      · rw [decide_eq_true c, if_pos (show ¬ q01 true = 0 by decide), if_neg i0, if_pos c]
        unfold qxi; rw [if_pos (by omega)]; rfl
      · rw [decide_eq_false c, if_neg (show ¬ ¬ q01 false = 0 by decide), if_neg c, ih (j + 1) m (by omega) (by omega) (by omega), show j + 1 + qlf (qnm B q k) (L.drop (j + 1)) = j + (qlf (qnm B q k) (L.drop (j + 1)) + 1) by omega]
  unfold zX5_find
  have := lp L.length 0 N (by omega) (by omega) (by omega)
  rw [Nat.zero_add, List.drop_zero] at this
  exact this
