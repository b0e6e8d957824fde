set_option maxRecDepth 100000
set_option maxHeartbeats 4000000
/-! The plain law: the class reads expressions: its state, its faults, one turn of its loops. -/
def qtm (r : Option (Nat × Nat)) (f : Nat × Nat) : Option (Nat × Nat) := match r with
  | none => some f
  | some g => if g.2 < f.2 ∨ (f.2 = g.2 ∧ g.1 ≤ f.1) then some g else some f
def qto (r g : Option (Nat × Nat)) : Option (Nat × Nat) := match g with
  | none => r
  | some f => qtm r f
/-- the fault that the class has told -/
def xR (r : Option (Nat × Nat)) (σ : fv_S) : Prop := match r with
  | none => fv_gi σ 1563 = 0
  | some f => fv_gi σ 1563 = Int32.ofNat f.1 ∧ fv_gi σ 1564 = Int32.ofNat f.2 ∧ 1 ≤ f.1 ∧ f.1 ≤ 9 ∧ f.2 ≤ 6000
theorem xR_c {r : Option (Nat × Nat)} {σ σ' : fv_S} (h : xR r σ) (h1 : fv_gi σ' 1563 = fv_gi σ 1563) (h2 : fv_gi σ' 1564 = fv_gi σ 1564) : xR r σ' := by
  cases r with
  | none => exact h1.trans h
  | some f => exact ⟨h1.trans h.1, h2.trans h.2.1, h.2.2⟩
theorem x_tell {r : Option (Nat × Nat)} {σ : fv_S} (h : xR r σ) (f : Nat × Nat) (h1 : 1 ≤ f.1) (h9 : f.1 ≤ 9) (h2 : f.2 ≤ 6000) : ∃ σ', zX3_tellFault (Int32.ofNat f.1) (Int32.ofNat f.2) σ = fv_rv σ' ∧ xR (qtm r f) σ' ∧ (∀ k, k ≠ 1563 → k ≠ 1564 → fv_gi σ' k = fv_gi σ k) ∧ σ'.2 = σ.2 := by
  have put : ∃ σ', zX3_tellFault_32 (Int32.ofNat f.1) (Int32.ofNat f.2) σ = fv_rv σ' ∧ xR (some f) σ' ∧ (∀ k, k ≠ 1563 → k ≠ 1564 → fv_gi σ' k = fv_gi σ k) ∧ σ'.2 = σ.2 :=
    ⟨_, rfl, ⟨rfl, rfl, h1, h9, h2⟩, fun k a b => (if_neg b).trans (if_neg a), rfl⟩
  unfold zX3_tellFault
  cases r with
  | none =>
    rw [show fv_gi σ 1563 = 0 from h, if_pos (show (0 : Int32) ≤ 0 by decide)]
    exact put
  | some g =>
    obtain ⟨g1, g2, g3, g4, g5⟩ := h
    rw [g1, g2, if_neg (show ¬ Int32.ofNat g.1 ≤ 0 from fun e => by have := (p_leN g.1 0 (by omega) (by omega)).1 e; omega)]
    have keep : ∃ σ', fv_rv σ = fv_rv σ' ∧ xR (some g) σ' ∧ (∀ k, k ≠ 1563 → k ≠ 1564 → fv_gi σ' k = fv_gi σ k) ∧ σ'.2 = σ.2 := ⟨σ, rfl, ⟨g1, g2, g3, g4, g5⟩, fun _ _ _ => rfl, rfl⟩
    show ∃ σ', _ = _ ∧ xR (if g.2 < f.2 ∨ (f.2 = g.2 ∧ g.1 ≤ f.1) then some g else some f) σ' ∧ _
    by_cases c1 : g.2 < f.2
    · rw [if_pos ((p_ltN g.2 f.2 (by omega) (by omega)).2 c1), if_pos (Or.inl c1)]; exact keep
    rw [if_neg (fun e => c1 ((p_ltN g.2 f.2 (by omega) (by omega)).1 e))]
    by_cases c2 : f.2 = g.2
    · rw [if_neg (show ¬ ¬ Int32.ofNat f.2 = Int32.ofNat g.2 from not_not_intro (by rw [c2]))]
      by_cases c3 : f.1 < g.1
      · rw [if_pos ((p_ltN f.1 g.1 (by omega) (by omega)).2 c3), if_neg (by omega)]; exact put
      · rw [if_neg (fun e => c3 ((p_ltN f.1 g.1 (by omega) (by omega)).1 e)), if_pos (by omega)]; exact keep
    · rw [if_pos (show ¬ Int32.ofNat f.2 = Int32.ofNat g.2 from fun e => c2 ((p_eqN _ _ (by omega) (by omega)).1 e)), if_neg (by omega)]; exact put
theorem qtm_le (r : Option (Nat × Nat)) (f : Nat × Nat) : ∃ g, qtm r f = some g ∧ g.2 ≤ f.2 := by
  cases r with
  | none => exact ⟨f, rfl, Nat.le_refl _⟩
  | some g =>
    show ∃ h, (if g.2 < f.2 ∨ (f.2 = g.2 ∧ g.1 ≤ f.1) then some g else some f) = some h ∧ _
    by_cases c : g.2 < f.2 ∨ (f.2 = g.2 ∧ g.1 ≤ f.1)
    · rw [if_pos c]; exact ⟨g, rfl, by omega⟩
    · rw [if_neg c]; exact ⟨f, rfl, Nat.le_refl _⟩
/-- a fault behind one that is told changes nothing -/
theorem qtm_2 (r : Option (Nat × Nat)) (f g : Nat × Nat) (h : f.2 < g.2) : qtm (qtm r f) g = qtm r f := by
  obtain ⟨a, e, l⟩ := qtm_le r f
  rw [e]
  show (if a.2 < g.2 ∨ (g.2 = a.2 ∧ a.1 ≤ g.1) then some a else some g) = some a
  rw [if_pos (Or.inl (by omega))]
theorem qoe_n {α : Type} (a : Option α) : qoe a none = a := by cases a <;> rfl
theorem qoe_a {α : Type} (a b c : Option α) : qoe (qoe a b) c = qoe a (qoe b c) := by cases a <;> rfl
theorem qoe_no {α : Type} {a b : Option α} (h : qoe a b = none) : a = none ∧ b = none := by
  cases a with
  | none => exact ⟨rfl, h⟩
  | some x => exact absurd h (by simp [qoe])
/-- what an expression leaves alone -/
def xFe (σ σ' : fv_S) : Prop := (∀ k, k ≠ 1560 → k ≠ 1562 → k ≠ 1563 → k ≠ 1564 → (k < 1667 ∨ 1672 < k) → fv_gi σ' k = fv_gi σ k) ∧ σ'.2.1 = σ.2.1 ∧ σ'.2.2.1 = σ.2.2.1
theorem xFe_r (σ : fv_S) : xFe σ σ := ⟨fun _ _ _ _ _ _ => rfl, rfl, rfl⟩
theorem xFe_t {a b c : fv_S} (h : xFe a b) (g : xFe b c) : xFe a c := ⟨fun k h1 h2 h3 h4 h5 => (g.1 k h1 h2 h3 h4 h5).trans (h.1 k h1 h2 h3 h4 h5), g.2.1.trans h.2.1, g.2.2.trans h.2.2⟩
theorem xFe_g {a b : fv_S} (h : qGx a b) : xFe a b := ⟨fun k _ _ _ _ h5 => h.1 k h5, by rw [h.2], by rw [h.2]⟩
theorem xFe_si {a b : fv_S} (h : xFe a b) (k : Nat) (v : Int32) (hk : k = 1560 ∨ k = 1562) : xFe a (fv_si b k v) := ⟨fun j h1 h2 h3 h4 h5 => (if_neg (show j ≠ k by omega)).trans (h.1 j h1 h2 h3 h4 h5), h.2.1, h.2.2⟩
theorem xFe_tl {a b c : fv_S} (h : xFe a b) (g : ∀ k, k ≠ 1563 → k ≠ 1564 → fv_gi c k = fv_gi b k) (g2 : c.2 = b.2) : xFe a c := ⟨fun k h1 h2 h3 h4 h5 => (g k h3 h4).trans (h.1 k h1 h2 h3 h4 h5), by rw [g2]; exact h.2.1, by rw [g2]; exact h.2.2⟩
def qlk (L : List (List Nat × Int32)) (l : List Nat) : Option Int32 := (L[qlf l L]?).map Prod.snd
/-- what holds all through an expression -/
def xI (B : Nat → Nat) (n : Nat) (L : List (List Nat × Int32)) (K : Prop) (e : qEv) (σ : fv_S) : Prop := qX B n σ ∧ xL L σ ∧ e.1 = qlk L ∧ fv_gi σ 1565 = e.2 ∧ (K ↔ ¬ (fv_gi σ 1541 = 0 ∧ fv_gi σ 1542 = 0))
theorem qX_e {B : Nat → Nat} {n : Nat} {σ σ' : fv_S} (h : qX B n σ) (f : xFe σ σ') : qX B n σ' := by
  refine ⟨(f.1 1665 (by omega) (by omega) (by omega) (by omega) (by omega)).trans h.1, ?_⟩
  show ∀ i, i < n → σ'.2.2.1 14 i = _ ∧ σ'.2.2.1 15 i = _
  rw [f.2.2]; exact h.2
theorem xL_e {L : List (List Nat × Int32)} {σ σ' : fv_S} (h : xL L σ) (f : xFe σ σ') : xL L σ' := by
  refine ⟨(f.1 2051 (by omega) (by omega) (by omega) (by omega) (by omega)).trans h.1, h.2.1, ?_⟩
  show ∀ i e, L[i]? = some e → e.1.length ≤ 12 ∧ σ'.2.2.1 18 i = _ ∧ σ'.2.2.1 19 i = _ ∧ ∀ j c, e.1[j]? = some c → σ'.2.2.1 17 (12 * i + j) = _ ∧ _
  rw [f.2.2]; exact h.2.2
theorem xI_e {B : Nat → Nat} {n : Nat} {L : List (List Nat × Int32)} {K : Prop} {e : qEv} {σ σ' : fv_S} (h : xI B n L K e σ) (f : xFe σ σ') : xI B n L K e σ' := by
  have g : ∀ k, k = 1565 ∨ k = 1541 ∨ k = 1542 → fv_gi σ' k = fv_gi σ k := fun k hk => f.1 k (by omega) (by omega) (by omega) (by omega) (by omega)
  refine ⟨qX_e h.1 f, xL_e h.2.1 f, h.2.2.1, (g 1565 (by omega)).trans h.2.2.2.1, ?_⟩
  rw [g 1541 (by omega), g 1542 (by omega)]; exact h.2.2.2.2
/-- the faults of an expression so far: G, behind r0 of the line before it -/
def xG (K : Prop) (r0 G : Option (Nat × Nat)) (p : Nat) (σ : fv_S) : Prop := (K → fv_gi σ 1560 = (if G = none then 1 else 0) ∧ xR (qto r0 G) σ ∧ ∀ f, G = some f → f.2 < p) ∧ (¬ K → (fv_gi σ 1560 = 0 ∨ fv_gi σ 1560 = 1) ∧ xR r0 σ)
theorem xG_c {K : Prop} {r0 G : Option (Nat × Nat)} {p p' : Nat} {σ σ' : fv_S} (h : xG K r0 G p σ) (hp : p ≤ p') (h0 : fv_gi σ' 1560 = fv_gi σ 1560) (h3 : fv_gi σ' 1563 = fv_gi σ 1563) (h4 : fv_gi σ' 1564 = fv_gi σ 1564) : xG K r0 G p' σ' :=
  ⟨fun k => ⟨h0.trans (h.1 k).1, xR_c (h.1 k).2.1 h3 h4, fun f e => by have := (h.1 k).2.2 f e; omega⟩, fun k => ⟨by rw [h0]; exact (h.2 k).1, xR_c (h.2 k).2 h3 h4⟩⟩
theorem xG_g {K : Prop} {r0 G : Option (Nat × Nat)} {p p' : Nat} {σ σ' : fv_S} (h : xG K r0 G p σ) (hp : p ≤ p') (f : qGx σ σ') : xG K r0 G p' σ' := xG_c h hp (f.1 _ (by omega)) (f.1 _ (by omega)) (f.1 _ (by omega))
theorem xG_k {K : Prop} {r0 G : Option (Nat × Nat)} {p : Nat} {σ : fv_S} (h : xG K r0 G p σ) : fv_gi σ 1560 = 0 ∨ fv_gi σ 1560 = 1 := by
  by_cases k : K
  · have := (h.1 k).1
    by_cases c : G = none
    · rw [if_pos c] at this; exact Or.inr this
    · rw [if_neg c] at this; exact Or.inl this
  · exact (h.2 k).1
/-- before an expression, or a part of one -/
def xS (B : Nat → Nat) (n : Nat) (L : List (List Nat × Int32)) (K : Prop) (e : qEv) (r0 G : Option (Nat × Nat)) (d p : Nat) (σ : fv_S) : Prop := xI B n L K e σ ∧ fv_gi σ 1562 = Int32.ofNat d ∧ xAt B n p σ ∧ xG K r0 G p σ
/-- behind it -/
def xOu (B : Nat → Nat) (n : Nat) (K : Prop) (r0 G : Option (Nat × Nat)) (d : Nat) (v : Int32) (o : qOu) (σ : fv_S) (out : Option fv_O) : Prop := match o with
  | .inr p' => ∃ w σ', out = fv_ri w σ' ∧ xFe σ σ' ∧ fv_n σ' = fv_n σ ∧ fv_gi σ' 1562 = Int32.ofNat d ∧ xAt B n p' σ' ∧ xG K r0 G p' σ' ∧ (K → G = none → w = v)
  | .inl f => ∃ σ', out = fv_th (Int32.ofNat f.1) (Int32.ofNat f.2) σ' ∧ xFe σ σ' ∧ fv_n σ' = fv_n σ + 1 ∧ (1 ≤ f.1 ∧ f.1 ≤ 2 ∧ f.2 ≤ n) ∧ (K → xR (qto r0 G) σ' ∧ ∀ g, G = some g → g.2 < f.2) ∧ (¬ K → xR r0 σ')
theorem xOu_t {B : Nat → Nat} {n : Nat} {K : Prop} {r0 G : Option (Nat × Nat)} {d : Nat} {v : Int32} {o : qOu} {σ0 σ : fv_S} {out : Option fv_O} (f : xFe σ0 σ) (fn : fv_n σ = fv_n σ0) (h : xOu B n K r0 G d v o σ out) : xOu B n K r0 G d v o σ0 out := by
  cases o with
  | inr p' => obtain ⟨w, σ', h1, h2, h3, h4⟩ := h; exact ⟨w, σ', h1, xFe_t f h2, h3.trans fn, h4⟩
  | inl g => obtain ⟨σ', h1, h2, h3, h4⟩ := h; exact ⟨σ', h1, xFe_t f h2, h3.trans (by rw [fn]), h4⟩
theorem qGx_n {a b : fv_S} (h : qGx a b) : fv_n b = fv_n a := by show b.2.2.2 = a.2.2.2; rw [h.2]
noncomputable def xfl (N : Nat) (kU : fv_S → Option fv_O) (l : Nat) : fv_S → Option fv_O :=
  if l = 1 then zX3_or N kU else if l = 2 then zX3_xor N kU else if l = 3 then zX3_and N kU else if l = 4 then zX3_shift N kU else if l = 5 then zX3_sum N kU else if l = 6 then zX3_term N kU else kU
noncomputable def xlp (N : Nat) (kU : fv_S → Option fv_O) (l m : Nat) : Int32 → fv_S → Option fv_O :=
  if l = 1 then zX3_or_5 N kU m else if l = 2 then zX3_xor_5 N kU m else if l = 3 then zX3_and_5 N kU m else if l = 4 then zX3_shift_5 N kU m else if l = 5 then zX3_sum_5 N kU m else zX3_term_5 N kU m
theorem xfl_s (N : Nat) (kU : fv_S → Option fv_O) (l : Nat) (h1 : 1 ≤ l) (h6 : l ≤ 6) (σ : fv_S) : xfl N kU l σ = fv_bi (xfl N kU (l + 1) σ) (fun r σ' => xlp N kU l N r σ') fv_th := by
  have : l = 1 ∨ l = 2 ∨ l = 3 ∨ l = 4 ∨ l = 5 ∨ l = 6 := by omega
  rcases this with rfl | rfl | rfl | rfl | rfl | rfl <;> rfl
/-- one turn of a loop: the sign is none of the level's -/
theorem x_lps {B : Nat → Nat} {n p : Nat} (hS : qS B n) {N : Nat} (hN : 7000 ≤ N) {σ : fv_S} (h : qX B n σ) (a : xAt B n p σ) (kU : fv_S → Option fv_O) (l m : Nat) (h1 : 1 ≤ l) (h6 : l ≤ 6) (w : Int32) (c : qlv (qT B n p).1 ≠ l) : ∃ σ', xlp N kU l (m + 1) w σ = fv_ri w σ' ∧ qGx σ σ' ∧ qXt n (qT B n p) σ' := by
  obtain ⟨σ1, x1, f1, k1⟩ := x_look hS hN h a
  have hb := qT_b hS p a.1
  refine ⟨σ1, ?_, f1, k1⟩
  have ne : ∀ c, c ≠ 0 → c ≠ 10 → c < 256 → (qT B n p).1 ≠ c → ¬ qxk n (qT B n p) = Int32.ofNat c := fun c h0 h10 hc h e => h ((qxk_ne hb c h0 h10 hc).1 e)
  have : l = 1 ∨ l = 2 ∨ l = 3 ∨ l = 4 ∨ l = 5 ∨ l = 6 := by omega
  rcases this with rfl | rfl | rfl | rfl | rfl | rfl
  · have c1 : (qT B n p).1 ≠ 124 := fun e => by rw [e] at c; exact c rfl
    show zX3_or_5_b _ _ _ _ _ = _
    unfold zX3_or_5_b
    rw [x1, fv_bi_ri, if_pos (show ¬ qxk n (qT B n p) = 124 from ne 124 (by omega) (by omega) (by omega) c1)]
  · have c1 : (qT B n p).1 ≠ 94 := fun e => by rw [e] at c; exact c rfl
    show zX3_xor_5_b _ _ _ _ _ = _
    unfold zX3_xor_5_b
    rw [x1, fv_bi_ri, if_pos (show ¬ qxk n (qT B n p) = 94 from ne 94 (by omega) (by omega) (by omega) c1)]
  · have c1 : (qT B n p).1 ≠ 38 := fun e => by rw [e] at c; exact c rfl
    show zX3_and_5_b _ _ _ _ _ = _
    unfold zX3_and_5_b
    rw [x1, fv_bi_ri, if_pos (show ¬ qxk n (qT B n p) = 38 from ne 38 (by omega) (by omega) (by omega) c1)]
  · have c1 : (qT B n p).1 ≠ 4 := fun e => by rw [e] at c; exact c rfl
    have c2 : (qT B n p).1 ≠ 5 := fun e => by rw [e] at c; exact c rfl
    show zX3_shift_5_b _ _ _ _ _ = _
    unfold zX3_shift_5_b
    rw [x1, fv_bi_ri, if_neg (show ¬ qxk n (qT B n p) = 4 from ne 4 (by omega) (by omega) (by omega) c1), k1.2.1, if_pos (show ¬ qxk n (qT B n p) = 5 from ne 5 (by omega) (by omega) (by omega) c2)]
  · have c1 : (qT B n p).1 ≠ 43 := fun e => by rw [e] at c; exact c rfl
    have c2 : (qT B n p).1 ≠ 45 := fun e => by rw [e] at c; exact c rfl
    show zX3_sum_5_b _ _ _ _ _ = _
    unfold zX3_sum_5_b
    rw [x1, fv_bi_ri, if_neg (show ¬ qxk n (qT B n p) = 43 from ne 43 (by omega) (by omega) (by omega) c1), k1.2.1, if_pos (show ¬ qxk n (qT B n p) = 45 from ne 45 (by omega) (by omega) (by omega) c2)]
  · have c1 : (qT B n p).1 ≠ 42 := fun e => by rw [e] at c; exact c rfl
    have c2 : (qT B n p).1 ≠ 47 := fun e => by rw [e] at c; exact c rfl
    show zX3_term_5_b _ _ _ _ _ = _
    unfold zX3_term_5_b
    rw [x1, fv_bi_ri, if_neg (show ¬ qxk n (qT B n p) = 42 from ne 42 (by omega) (by omega) (by omega) c1), k1.2.1, if_pos (show ¬ qxk n (qT B n p) = 47 from ne 47 (by omega) (by omega) (by omega) c2)]
/-- what is done behind a sign's second operand -/
noncomputable def xdo (N : Nat) (kU : fv_S → Option fv_O) (l m k q : Nat) (w r : Int32) (σ : fv_S) : Option fv_O :=
  if k = 47 ∧ r = 0 then zX3_term_82 N kU (zX3_term_5 N kU m) w 0 (Int32.ofNat q) r 1 σ else xlp N kU l m (qap k w r) σ
theorem qlv_c {k l : Nat} (h : qlv k = l) (h1 : 1 ≤ l) : (l = 1 ∧ k = 124) ∨ (l = 2 ∧ k = 94) ∨ (l = 3 ∧ k = 38) ∨ (l = 4 ∧ k = 4) ∨ (l = 4 ∧ k = 5) ∨ (l = 5 ∧ k = 43) ∨ (l = 5 ∧ k = 45) ∨ (l = 6 ∧ k = 42) ∨ (l = 6 ∧ k = 47) := by
  unfold qlv at h
  repeat' split at h
  all_goals omega
theorem x_lpo {B : Nat → Nat} {n p : Nat} (hS : qS B n) {N : Nat} (hN : 7000 ≤ N) {σ : fv_S} (h : qX B n σ) (a : xAt B n p σ) (kU : fv_S → Option fv_O) (l m : Nat) (h1 : 1 ≤ l) (w : Int32) (c : qlv (qT B n p).1 = l) : ∃ σ', xlp N kU l (m + 1) w σ = fv_bi (xfl N kU (l + 1) σ') (fun r s => xdo N kU l m (qT B n p).1 (qT B n p).2.1 w r s) fv_th ∧ qGx σ σ' ∧ xAt B n (qT B n p).2.2.1 σ' := by
  obtain ⟨σ1, x1, f1, k1⟩ := x_look hS hN h a
  have hb := qT_b hS p a.1
  have hk := qlv_k (k := (qT B n p).1) (by omega)
  obtain ⟨σ2, x2, f2, a2, _⟩ := x_pass (B := B) hb k1 hk.1 hk.2.1
  refine ⟨σ2, ?_, qGx_t f1 f2, a2⟩
  have eq : ∀ c, c ≠ 0 → c ≠ 10 → c < 256 → (qT B n p).1 = c → qxk n (qT B n p) = Int32.ofNat c := fun c h0 h10 hc h => (qxk_ne hb c h0 h10 hc).2 h
  have ne : ∀ c, c ≠ 0 → c ≠ 10 → c < 256 → (qT B n p).1 ≠ c → ¬ qxk n (qT B n p) = Int32.ofNat c := fun c h0 h10 hc h e => h ((qxk_ne hb c h0 h10 hc).1 e)
  rcases qlv_c c h1 with ⟨rfl, e⟩ | ⟨rfl, e⟩ | ⟨rfl, e⟩ | ⟨rfl, e⟩ | ⟨rfl, e⟩ | ⟨rfl, e⟩ | ⟨rfl, e⟩ | ⟨rfl, e⟩ | ⟨rfl, e⟩
  · show zX3_or_5_b _ _ _ _ _ = _
    unfold zX3_or_5_b
    rw [x1, fv_bi_ri, if_neg (show ¬ ¬ qxk n (qT B n p) = 124 from not_not_intro (eq 124 (by omega) (by omega) (by omega) e)), x2, fv_bv_rv, e]; rfl
  · show zX3_xor_5_b _ _ _ _ _ = _
    unfold zX3_xor_5_b
    rw [x1, fv_bi_ri, if_neg (show ¬ ¬ qxk n (qT B n p) = 94 from not_not_intro (eq 94 (by omega) (by omega) (by omega) e)), x2, fv_bv_rv, e]; rfl
  · show zX3_and_5_b _ _ _ _ _ = _
    unfold zX3_and_5_b
    rw [x1, fv_bi_ri, if_neg (show ¬ ¬ qxk n (qT B n p) = 38 from not_not_intro (eq 38 (by omega) (by omega) (by omega) e)), x2, fv_bv_rv, e]; rfl
  · show zX3_shift_5_b _ _ _ _ _ = _
    unfold zX3_shift_5_b zX3_shift_27 zX3_shift_43
    have ee : qxk n (qT B n p) = 4 := eq 4 (by omega) (by omega) (by omega) e
    rw [x1, fv_bi_ri, if_pos ee, k1.2.1, if_neg (not_not_intro ee), x2, fv_bv_rv, e]; rfl
  · show zX3_shift_5_b _ _ _ _ _ = _
    unfold zX3_shift_5_b zX3_shift_27 zX3_shift_43
    have ee : qxk n (qT B n p) = 5 := eq 5 (by omega) (by omega) (by omega) e
    have e4 : ¬ qxk n (qT B n p) = 4 := ne 4 (by omega) (by omega) (by omega) (by omega)
    rw [x1, fv_bi_ri, if_neg e4, k1.2.1, if_neg (not_not_intro ee), if_pos e4, x2, fv_bv_rv, e]; rfl
  · show zX3_sum_5_b _ _ _ _ _ = _
    unfold zX3_sum_5_b zX3_sum_29 zX3_sum_46
    have ee : qxk n (qT B n p) = 43 := eq 43 (by omega) (by omega) (by omega) e
    rw [x1, fv_bi_ri, if_pos ee, k1.2.1, if_neg (not_not_intro ee), x2, fv_bv_rv, e]; rfl
  · show zX3_sum_5_b _ _ _ _ _ = _
    unfold zX3_sum_5_b zX3_sum_29 zX3_sum_46
    have ee : qxk n (qT B n p) = 45 := eq 45 (by omega) (by omega) (by omega) e
    have e4 : ¬ qxk n (qT B n p) = 43 := ne 43 (by omega) (by omega) (by omega) (by omega)
    rw [x1, fv_bi_ri, if_neg e4, k1.2.1, if_neg (not_not_intro ee), if_pos e4, x2, fv_bv_rv, e]; rfl
  · show zX3_term_5_b _ _ _ _ _ = _
    unfold zX3_term_5_b zX3_term_29 zX3_term_46
    have ee : qxk n (qT B n p) = 42 := eq 42 (by omega) (by omega) (by omega) e
    rw [x1, fv_bi_ri, if_pos ee, k1.2.1, if_neg (not_not_intro ee), x2, fv_bv_rv, e]; rfl
  · show zX3_term_5_b _ _ _ _ _ = _
    unfold zX3_term_5_b zX3_term_29 zX3_term_46
    have ee : qxk n (qT B n p) = 47 := eq 47 (by omega) (by omega) (by omega) e
    have e4 : ¬ qxk n (qT B n p) = 42 := ne 42 (by omega) (by omega) (by omega) (by omega)
    rw [x1, fv_bi_ri, if_neg e4, k1.2.1, if_neg (not_not_intro ee), if_pos e4, x2, fv_bv_rv, e, k1.2.2.1]
    show fv_bi (kU σ2) _ _ = fv_bi (kU σ2) _ _
    congr 1
    funext r s
    unfold xdo
    rw [if_neg (show ¬ ¬ (0 : Int32) = 0 from not_not_intro rfl)]
    by_cases c : r = 0
    · rw [if_neg (not_not_intro c), if_pos ⟨rfl, c⟩]
    · rw [if_pos c, if_neg (fun h => c h.2)]
      unfold zX3_term_81 zX3_term_82 zX3_term_121
      rw [if_pos rfl, if_pos rfl, if_pos rfl, if_neg c]; rfl
