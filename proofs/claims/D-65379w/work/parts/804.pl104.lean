set_option maxRecDepth 100000
set_option maxHeartbeats 4000000
/-! The plain law: a line that is skipped, in the class. -/
def qnbl (B : Nat → Nat) (n p : Nat) : Nat := qrun (fun i => qbl (B i)) n p
def qnen (B : Nat → Nat) (n p : Nat) : Nat := qrun (fun i => qnp (B i)) n p
def qeol (B : Nat → Nat) (n p : Nat) : Nat := qrun (fun i => !(B i == 10)) n p
/-- the word that a skipped line holds: which, and where -/
def qskw (B : Nat → Nat) (n p : Nat) : Nat × Nat :=
  if qst (B (qnbl B n p)) = true then
    (if B (qnbl B n (qnen B n (qnbl B n p))) = 58 then
      (if qst (B (qnbl B n (qnbl B n (qnen B n (qnbl B n p)) + 1))) = true then (qri (qnm B (qnbl B n (qnbl B n (qnen B n (qnbl B n p)) + 1)) (qnen B n (qnbl B n (qnbl B n (qnen B n (qnbl B n p)) + 1)) - qnbl B n (qnbl B n (qnen B n (qnbl B n p)) + 1))), qnbl B n (qnbl B n (qnen B n (qnbl B n p)) + 1)) else (99, qnbl B n (qnbl B n (qnen B n (qnbl B n p)) + 1)))
    else (qri (qnm B (qnbl B n p) (qnen B n (qnbl B n p) - qnbl B n p)), qnbl B n p))
  else (99, qnbl B n p)
/-- what it does -/
def qsky (I : List (Bool × Bool)) (w : Nat × Nat) : (Nat × Nat) ⊕ List (Bool × Bool) :=
  if w.1 = 72 then (if I.length = 8 then .inl (7, w.2) else .inr ((false, false) :: I)) else if w.1 = 73 ∨ w.1 = 74 then qtu (decide (w.1 = 73)) I w.2 else .inr I
theorem qnbl_b {B : Nat → Nat} {n : Nat} (hS : qS B n) {p : Nat} (hp : p ≤ n) : p ≤ qnbl B n p ∧ qnbl B n p ≤ n ∧ (∀ i, p ≤ i → i < qnbl B n p → B i ≠ 10) := by
  have h := qrun_le (fun i => qbl (B i)) n p
  refine ⟨h.1, h.2 hp, fun i h1 h2 e => ?_⟩
  have : qbl (B i) = true := qrun_in (P := fun i => qbl (B i)) h1 h2
  rw [e] at this; exact absurd this (by decide)
theorem qnen_b {B : Nat → Nat} {n : Nat} (hS : qS B n) {p : Nat} (hp : p ≤ n) : p ≤ qnen B n p ∧ qnen B n p ≤ n ∧ (∀ i, p ≤ i → i < qnen B n p → B i ≠ 10 ∧ 1 ≤ B i) ∧ (qst (B p) = true → p < qnen B n p) := by
  have h := qrun_le (fun i => qnp (B i)) n p
  have nn : ∀ i, n ≤ i → qnp (B i) = false := fun i hi => by rw [hS.2.2 i hi]; decide
  refine ⟨h.1, h.2 hp, fun i h1 h2 => ?_, fun hs => ?_⟩
  · have : qnp (B i) = true := qrun_in (P := fun i => qnp (B i)) h1 h2
    have t := qnp_1 this
    exact ⟨fun e => by omega, by omega⟩
  · have np : qnp (B p) = true := by unfold qnp; rw [hs]; rfl
    have pn : p < n := by
      by_cases c : p < n
      · exact c
      · have := nn p (by omega); rw [np] at this; exact absurd this (by decide)
    have e : qnen B n p = qrun (fun i => qnp (B i)) n (p + 1) := qrun_s pn np
    have := (qrun_le (fun i => qnp (B i)) n (p + 1)).1
    omega
theorem qeol_b {B : Nat → Nat} {n : Nat} (hS : qS B n) {p : Nat} (hp : p ≤ n) : p ≤ qeol B n p ∧ qeol B n p ≤ n ∧ B (qeol B n p) = 10 := by
  have h := qrun_le (fun i => !(B i == 10)) n p
  refine ⟨h.1, h.2 hp, ?_⟩
  have := qrun_out (P := fun i => !(B i == 10)) (n := n) (p := p) (fun i hi => by rw [hS.2.2 i hi]; rfl)
  have : (!(B (qeol B n p) == 10)) = false := this
  simpa using this
theorem qeol_s {B : Nat → Nat} {n : Nat} : ∀ (d p r : Nat), r - p = d → p ≤ r → r ≤ n → (∀ i, p ≤ i → i < r → B i ≠ 10) → qeol B n p = qeol B n r := by
  intro d
  induction d with
  | zero => intro p r e h _ _; rw [show p = r by omega]
  | succ d ih =>
    intro p r e h hn hi
    have hp : B p ≠ 10 := hi p (by omega) (by omega)
    have : qeol B n p = qeol B n (p + 1) := qrun_s (show p < n by omega) (by show (!(B p == 10)) = true; simp [hp])
    rw [this]
    exact ih (p + 1) r (by omega) (by omega) hn (fun i h1 h2 => hi i (by omega) h2)
theorem x_ne {B : Nat → Nat} {n N : Nat} (hS : qS B n) (hN : 7000 ≤ N) {σ : fv_S} (h : qX B n σ) {p : Nat} (hp : p ≤ n) : zX3_nameEnd N (Int32.ofNat p) σ = fv_ri (Int32.ofNat (qnen B n p)) σ := by
  have hn := hS.1
  have lp : ∀ (d p m : Nat), n - p = d → p ≤ n → d + 1 ≤ m → zX3_nameEnd_2 N m (Int32.ofNat p) σ = fv_ri (Int32.ofNat (qnen B n p)) σ := by
    intro d
    induction d with
    | zero =>
      intro p m e hp hm
      obtain ⟨m, rfl⟩ : ∃ j, m = j + 1 := ⟨m - 1, by omega⟩
      show zX3_nameEnd_2_b N _ _ _ = _
      unfold zX3_nameEnd_2_b
      have : qnp (B p) = false := by rw [hS.2.2 p (by omega)]; decide
      rw [x_sg hS h p (by omega), fv_bi_ri, x_np hS p, fv_bi_ri, this, if_pos (show q01 false = 0 by decide), show qnen B n p = p from qrun_n (by omega)]
    | succ d ih =>
      intro p m e hp hm
      obtain ⟨m, rfl⟩ : ∃ j, m = j + 1 := ⟨m - 1, by omega⟩
      show zX3_nameEnd_2_b N _ _ _ = _
      unfold zX3_nameEnd_2_b
      rw [x_sg hS h p (by omega), fv_bi_ri, x_np hS p, fv_bi_ri]
      cases hq : qnp (B p) with
      | false => rw [if_pos (show q01 false = 0 by decide), show qnen B n p = p from qrun_e hq]
      | true =>
        rw [if_neg (show ¬ q01 true = 0 by decide), p_sucN, show qnen B n p = qnen B n (p + 1) from qrun_s (show p < n by omega) hq]
        exact ih (p + 1) m (by omega) (by omega) (by omega)
  exact lp (n - p) p N rfl hp (by omega)
/-- to the line's end -/
theorem x_211 {B : Nat → Nat} {n N : Nat} (hS : qS B n) (hN : 7000 ≤ N) : ∀ (d p m : Nat) (σ : fv_S), n - p = d → p ≤ n → d + 1 ≤ m → qX B n σ → fv_gi σ 1667 = Int32.ofNat p → ∃ σ', zX3_skipLine_211 N m σ = fv_rv σ' ∧ qGx σ σ' ∧ fv_gi σ' 1667 = Int32.ofNat (qeol B n p) ∧ fv_gi σ' 1668 = 0 := by
  have hn := hS.1
  intro d
  induction d with
  | zero =>
    intro p m σ e hp hm h g
    obtain ⟨m, rfl⟩ : ∃ j, m = j + 1 := ⟨m - 1, by omega⟩
    show ∃ σ', zX3_skipLine_211_b N _ _ = _ ∧ _
    unfold zX3_skipLine_211_b zX3_skipLine_264
    rw [h.1, g, if_pos ((p_leN n p (by omega) (by omega)).2 (by omega))]
    refine ⟨_, rfl, qGx_si (qGx_r σ) 1668 0 (by omega), ?_, rfl⟩
    rw [show qeol B n p = p from qrun_n (by omega)]; exact g
  | succ d ih =>
    intro p m σ e hp hm h g
    obtain ⟨m, rfl⟩ : ∃ j, m = j + 1 := ⟨m - 1, by omega⟩
    obtain ⟨i1, i2⟩ := p_inN p 6000 (by omega) (by omega)
    have e10 : fv_ga σ 14 (Int32.ofNat p) = 10 ↔ B p = 10 := by
      show fv_gw σ 14 (Int32.ofNat p).toNatClampNeg = 10 ↔ _
      rw [i2, (h.2 p (by omega)).1]
      have : ∀ b, b < 256 → (p_se (Int32.ofNat b) = 10 ↔ b = 10) := by decide +kernel
      exact this _ (hS.2.1 p)
    show ∃ σ', zX3_skipLine_211_b N _ _ = _ ∧ _
    unfold zX3_skipLine_211_b zX3_skipLine_264
    rw [h.1, g, if_neg (fun x => by have := (p_leN n p (by omega) (by omega)).1 x; omega), if_pos i1]
    by_cases c : B p = 10
    · rw [if_pos (e10.2 c)]
      refine ⟨_, rfl, qGx_si (qGx_r σ) 1668 0 (by omega), ?_, rfl⟩
      rw [show qeol B n p = p from qrun_e (by show (!(B p == 10)) = false; simp [c])]; exact g
    · rw [if_neg (fun x => c (e10.1 x)), p_sucN]
      have f : qGx σ (fv_si σ 1667 (Int32.ofNat (p + 1))) := qGx_si (qGx_r σ) 1667 _ (by omega)
      obtain ⟨σ', x, f', g1, g2⟩ := ih (p + 1) m (fv_si σ 1667 (Int32.ofNat (p + 1))) (by omega) (by omega) (by omega) (qX_f h f) rfl
      refine ⟨σ', x, qGx_t f f', ?_, g2⟩
      rw [show qeol B n p = qeol B n (p + 1) from qrun_s (show p < n by omega) (by show (!(B p == 10)) = true; simp [c])]; exact g1
/-- how a skipped line ends, in the class -/
def xSk (B : Nat → Nat) (n : Nat) (sec : Bool) (L : List (List Nat × Int32)) (h org : Nat) (p : Nat) (y : (Nat × Nat) ⊕ List (Bool × Bool)) (σ : fv_S) (out : Option fv_O) : Prop := match y with
  | .inl f => ∃ σ', out = fv_th (Int32.ofNat f.1) (Int32.ofNat f.2) σ' ∧ fv_n σ' = fv_n σ + 1 ∧ xFo σ σ'
  | .inr I' => ∃ σ', out = fv_rv σ' ∧ fv_n σ' = fv_n σ ∧ xFo σ σ' ∧ xZ B n sec L h I' org σ' ∧ xMs σ σ' ∧ fv_gi σ' 1667 = Int32.ofNat (qeol B n p) ∧ fv_gi σ' 1668 = 0 ∧ fv_gi σ' 1563 = fv_gi σ 1563
theorem xSk_t {B : Nat → Nat} {n : Nat} {sec : Bool} {L : List (List Nat × Int32)} {h org p p0 : Nat} {y : (Nat × Nat) ⊕ List (Bool × Bool)} {σ0 σ : fv_S} {out : Option fv_O} (f : qGx σ0 σ) (e : qeol B n p0 = qeol B n p) (H : xSk B n sec L h org p y σ out) : xSk B n sec L h org p0 y σ0 out := by
  cases y with
  | inl g => obtain ⟨σ', h1, h2, h3⟩ := H; exact ⟨σ', h1, h2.trans (by rw [qGx_n f]), xFo_t (xFo_g f) h3⟩
  | inr I' => obtain ⟨σ', h1, h2, h3, h4, h5, h6, h7, h8⟩ := H; exact ⟨σ', h1, h2.trans (qGx_n f), xFo_t (xFo_g f) h3, h4, xMs_t (xMs_g f) h5, by rw [e]; exact h6, h7, h8.trans (f.1 1563 (by omega))⟩
theorem x_157 {B : Nat → Nat} {n N r q : Nat} (hS : qS B n) (hN : 7000 ≤ N) {sec : Bool} {L : List (List Nat × Int32)} {h : Nat} {I : List (Bool × Bool)} {org : Nat} {σ : fv_S} (z : xZ B n sec L h I org σ) (hI : I.length ≤ 8) (hd : qid I = false) (hr : r ≤ n) (g : fv_gi σ 1667 = Int32.ofNat r) (hq : q ≤ n) (w : Nat) (hw : w ≤ 99) : xSk B n sec L h org r (qsky I (w, q)) σ (zX3_skipLine_157 N (Int32.ofNat q) (qxi w 99) σ) := by
  have hn := hS.1
  have fin : ∀ (I' : List (Bool × Bool)) (s : fv_S), xZ B n sec L h I' org s → xMs σ s → xFo σ s → fv_n s = fv_n σ → fv_gi s 1667 = Int32.ofNat r → fv_gi s 1563 = fv_gi σ 1563 → xSk B n sec L h org r (.inr I') σ (zX3_skipLine_211 N N s) := by
    intro I' s zs ms fo fn gs g63
    obtain ⟨σ', x, f, g1, g2⟩ := x_211 (N := N) hS hN (n - r) r N s rfl hr (by omega) zs.1 gs
    exact ⟨σ', x, (qGx_n f).trans fn, xFo_t fo (xFo_g f), xZ_g zs f, xMs_t ms (xMs_g f), g1, g2, (f.1 1563 (by omega)).trans g63⟩
  have e : ∀ d, d < 99 → (qxi w 99 = Int32.ofNat d ↔ w = d) := by
    intro d hd
    unfold qxi
    by_cases c : w < 99
    · rw [if_pos c]; exact p_eqN w d (by omega) (by omega)
    · rw [if_neg c]
      have : ∀ d, d < 99 → ¬ (-1 : Int32) = Int32.ofNat d := by decide +kernel
      exact ⟨fun x => absurd x (this d hd), fun x => by omega⟩
  unfold zX3_skipLine_157 qsky
  by_cases c72 : w = 72
  · rw [if_neg (show ¬ ¬ qxi w 99 = 72 from not_not_intro ((e 72 (by omega)).2 c72)), if_pos (show ((w, q) : Nat × Nat).1 = 72 from c72), z.2.2.2.2.2.2.2.1]
    by_cases c8 : I.length = 8
    · rw [if_neg (show ¬ ¬ Int32.ofNat I.length = 8 from not_not_intro (by rw [c8]; rfl)), if_pos c8]
      exact ⟨fv_sc σ, rfl, rfl, xFo_sc (xFo_r σ)⟩
    · rw [if_pos (show ¬ Int32.ofNat I.length = 8 from fun x => c8 ((p_eqN _ 8 (by omega) (by omega)).1 x)), if_neg c8]
      obtain ⟨σ', x, z', ms, fo, fn, gi⟩ := x_begin z (by omega) false
      rw [hd] at x
      rw [show zX3_begin 0 1 σ = fv_rv σ' from x, fv_bv_rv]
      exact fin _ σ' z' ms fo fn ((gi 1667 (by omega)).trans g) (gi 1563 (by omega))
  rw [if_pos (show ¬ qxi w 99 = 72 from fun x => c72 ((e 72 (by omega)).1 x)), if_neg (show ¬ ((w, q) : Nat × Nat).1 = 72 from c72)]
  by_cases c73 : w = 73 ∨ w = 74
  · rw [if_pos (show ((w, q) : Nat × Nat).1 = 73 ∨ ((w, q) : Nat × Nat).1 = 74 from c73)]
    have ew : qxi w 99 = (if decide (w = 73) = true then (73 : Int32) else 74) := by
      rcases c73 with d | d
      · rw [decide_eq_true d, if_pos rfl]; exact (e 73 (by omega)).2 d
      · rw [decide_eq_false (by omega), if_neg (by decide)]; exact (e 74 (by omega)).2 d
    have st : (if qxi w 99 = 73 then zX3_skipLine_205 N (Int32.ofNat q) (qxi w 99) σ else if ¬ qxi w 99 = 74 then zX3_skipLine_211 N N σ else zX3_skipLine_205 N (Int32.ofNat q) (qxi w 99) σ) = zX3_skipLine_205 N (Int32.ofNat q) (qxi w 99) σ := by
      rcases c73 with d | d
      · rw [if_pos (show qxi w 99 = 73 from (e 73 (by omega)).2 d)]
      · rw [if_neg (show ¬ qxi w 99 = 73 from fun x => absurd ((e 73 (by omega)).1 x) (by omega)), if_neg (show ¬ ¬ qxi w 99 = 74 from not_not_intro ((e 74 (by omega)).2 d))]
    rw [st, ew]
    unfold zX3_skipLine_205
    obtain ⟨A, C⟩ := x_oth z hI (decide (w = 73)) q
    show xSk B n sec L h org r (qtu (decide (w = 73)) I q) σ _
    cases hu : qtu (decide (w = 73)) I q with
    | inl f =>
      rw [(A f hu).1, fv_bv_th]
      exact ⟨fv_sc σ, rfl, rfl, xFo_sc (xFo_r σ)⟩
    | inr I' =>
      obtain ⟨σ', x, z', ms, fo, fn, gi⟩ := C I' hu
      rw [x, fv_bv_rv]
      exact fin _ σ' z' ms fo fn ((gi 1667 (by omega)).trans g) (gi 1563 (by omega))
  · rw [if_neg (show ¬ (((w, q) : Nat × Nat).1 = 73 ∨ ((w, q) : Nat × Nat).1 = 74) from c73), if_neg (show ¬ qxi w 99 = 73 from fun x => c73 (Or.inl ((e 73 (by omega)).1 x))), if_pos (show ¬ qxi w 99 = 74 from fun x => c73 (Or.inr ((e 74 (by omega)).1 x)))]
    exact fin I σ z (xMs_r σ) (xFo_r σ) rfl g rfl
theorem x_skip {B : Nat → Nat} {n N p : Nat} (hS : qS B n) (hN : 7000 ≤ N) {sec : Bool} {L : List (List Nat × Int32)} {h : Nat} {I : List (Bool × Bool)} {org : Nat} {σ : fv_S} (z : xZ B n sec L h I org σ) (hI : I.length ≤ 8) (hd : qid I = false) (hp : p ≤ n) (g : fv_gi σ 1667 = Int32.ofNat p) : xSk B n sec L h org p (qsky I (qskw B n p)) σ (zX3_skipLine N σ) := by
  have hn := hS.1
  have bk : ∀ (p : Nat) (s : fv_S), p ≤ n → qX B n s → fv_gi s 1667 = Int32.ofNat p → ∃ σ', zX4_skipBlanks N s = fv_rv σ' ∧ qGx s σ' ∧ fv_gi σ' 1667 = Int32.ofNat (qnbl B n p) := by
    intro p s hp hs gs
    obtain ⟨σ', x, f, g1, _⟩ := x_bk hS N (n - p) p N s rfl hp (by omega) hs gs
    exact ⟨σ', x, f, g1⟩
  obtain ⟨q1, q2, q3⟩ := qnbl_b hS hp
  obtain ⟨σ1, x1, f1, g1⟩ := bk p σ hp z.1 g
  have z1 := xZ_g z f1
  have E1 : qeol B n p = qeol B n (qnbl B n p) := qeol_s _ p _ rfl q1 q2 q3
  unfold zX3_skipLine qskw
  rw [x1, fv_bv_rv, g1, x_sg hS z1.1 _ (by omega), fv_bi_ri, x_st hS, fv_bi_ri]
  generalize qnbl B n p = p1 at *
  refine xSk_t f1 E1 ?_
  have e130 : ∀ (x2 : Nat) (s : fv_S), x2 ≤ n → p1 < x2 → qX B n s → zX3_skipLine_130 N (Int32.ofNat p1) (Int32.ofNat x2) s = zX3_skipLine_157 N (Int32.ofNat p1) (qxi (qri (qnm B p1 (x2 - p1))) 99) s := by
    intro x2 s h2 hl hs
    unfold zX3_skipLine_130
    have sub : Int32.ofNat x2 - Int32.ofNat p1 = Int32.ofNat (x2 - p1) := by
      have : Int32.ofNat x2 = Int32.ofNat (x2 - p1) + Int32.ofNat p1 := by rw [← Int32.ofNat_add]; congr 1; omega
      rw [this, Int32.add_sub_cancel]
    rw [if_neg (fun x => by have := (p_leN x2 p1 (by omega) (by omega)).1 x; omega), sub, x_find hS hN (by omega) hs, fv_bi_ri]
  cases hs : qst (B p1) with
  | false =>
    rw [if_pos (show q01 false = 0 by decide), if_neg (by decide)]
    unfold zX3_skipLine_38
    obtain ⟨σ2, x2, f2, g2⟩ := bk p1 (fv_si σ1 1667 (Int32.ofNat p1)) q2 (qX_f z1.1 (qGx_si (qGx_r σ1) 1667 _ (by omega))) rfl
    have f12 := qGx_t (qGx_si (qGx_r σ1) 1667 (Int32.ofNat p1) (by omega)) f2
    obtain ⟨u1, u2, u3⟩ := qnbl_b hS q2
    rw [x2, fv_bv_rv, if_pos (Int32.le_refl _)]
    unfold zX3_skipLine_130
    rw [if_pos (Int32.le_refl _)]
    exact xSk_t f12 (qeol_s _ p1 _ rfl u1 u2 u3) (x_157 hS hN (xZ_g z1 f12) hI hd u2 g2 q2 99 (by omega))
  | true =>
    rw [if_neg (show ¬ q01 true = 0 by decide), if_pos rfl, x_ne hS hN z1.1 q2, fv_bi_ri]
    obtain ⟨v1, v2, v3, v4⟩ := qnen_b hS q2
    have v4 := v4 hs
    generalize qnen B n p1 = e1 at *
    unfold zX3_skipLine_38
    obtain ⟨σ2, x2, f2, g2⟩ := bk e1 (fv_si σ1 1667 (Int32.ofNat e1)) v2 (qX_f z1.1 (qGx_si (qGx_r σ1) 1667 _ (by omega))) rfl
    have f12 := qGx_t (qGx_si (qGx_r σ1) 1667 (Int32.ofNat e1) (by omega)) f2
    have z2 := xZ_g z1 f12
    obtain ⟨u1, u2, u3⟩ := qnbl_b hS v2
    generalize qnbl B n e1 = p2 at *
    have E2 : qeol B n p1 = qeol B n p2 := (qeol_s _ p1 e1 rfl (by omega) v2 (fun i a b => (v3 i a b).1)).trans (qeol_s _ e1 p2 rfl u1 u2 u3)
    rw [x2, fv_bv_rv, if_neg (show ¬ Int32.ofNat e1 ≤ Int32.ofNat p1 from fun x => by have := (p_leN e1 p1 (by omega) (by omega)).1 x; omega), g2, x_sg hS z2.1 _ (by omega), fv_bi_ri]
    by_cases c58 : B p2 = 58
    rotate_left
    · rw [if_neg c58, if_pos (show ¬ qxs B n p2 = 58 from fun x => c58 ((x_eqc hS p2 58 (by omega) rfl).1 x)), e130 e1 σ2 v2 v4 z2.1]
      exact xSk_t f12 E2 (x_157 hS hN z2 hI hd u2 g2 q2 _ (qri_le _))
    · rw [if_pos c58, if_neg (show ¬ ¬ qxs B n p2 = 58 from not_not_intro ((x_eqc hS p2 58 (by omega) rfl).2 c58)), g2, p_sucN]
      have p2n : p2 < n := by
        by_cases c : p2 < n
        · exact c
        · have := hS.2.2 p2 (by omega); omega
      obtain ⟨σ3, x3, f3, g3⟩ := bk (p2 + 1) (fv_si σ2 1667 (Int32.ofNat (p2 + 1))) (by omega) (qX_f z2.1 (qGx_si (qGx_r σ2) 1667 _ (by omega))) rfl
      have f23 := qGx_t (qGx_si (qGx_r σ2) 1667 (Int32.ofNat (p2 + 1)) (by omega)) f3
      have f13 := qGx_t f12 f23
      have z3 := xZ_g z2 f23
      obtain ⟨w1, w2, w3⟩ := qnbl_b hS (show p2 + 1 ≤ n by omega)
      generalize qnbl B n (p2 + 1) = p3 at *
      have E3 : qeol B n p1 = qeol B n p3 := (E2.trans (qeol_s _ p2 (p2 + 1) rfl (by omega) (by omega) (fun i a b => by rw [show i = p2 by omega]; omega))).trans (qeol_s _ (p2 + 1) p3 rfl w1 w2 w3)
      rw [x3, fv_bv_rv, g3, x_sg hS z3.1 _ (by omega), fv_bi_ri, x_st hS, fv_bi_ri]
      cases hs3 : qst (B p3) with
      | false =>
        rw [if_pos (show q01 false = 0 by decide), if_neg (by decide)]
        unfold zX3_skipLine_129 zX3_skipLine_130
        rw [if_pos (Int32.le_refl _)]
        exact xSk_t f13 E3 (x_157 hS hN z3 hI hd w2 g3 w2 99 (by omega))
      | true =>
        rw [if_neg (show ¬ q01 true = 0 by decide), if_pos rfl, x_ne hS hN z3.1 w2, fv_bi_ri]
        obtain ⟨y1, y2, y3, y4⟩ := qnen_b hS w2
        have y4 := y4 hs3
        unfold zX3_skipLine_129 zX3_skipLine_130
        have sub : Int32.ofNat (qnen B n p3) - Int32.ofNat p3 = Int32.ofNat (qnen B n p3 - p3) := by
          have : Int32.ofNat (qnen B n p3) = Int32.ofNat (qnen B n p3 - p3) + Int32.ofNat p3 := by rw [← Int32.ofNat_add]; congr 1; omega
          rw [this, Int32.add_sub_cancel]
        rw [if_neg (show ¬ Int32.ofNat (qnen B n p3) ≤ Int32.ofNat p3 from fun x => by have := (p_leN (qnen B n p3) p3 (by omega) (by omega)).1 x; omega), sub, x_find hS hN (by omega) z3.1, fv_bi_ri]
        exact xSk_t f13 E3 (x_157 hS hN z3 hI hd w2 g3 w2 _ (qri_le _))
