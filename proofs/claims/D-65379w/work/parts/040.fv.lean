set_option maxRecDepth 100000
set_option maxHeartbeats 4000000
/-! A flat state for the class and for the model: int fields by number, long fields by number, arrays by node, how many faults were made. -/
abbrev fv_S : Type := (Nat → Int32) × (Nat → Int64) × (Nat → Nat → Int32) × Nat
/-- what a method answers: nothing, an int, a long, a fault (its number and place) -/
abbrev fv_R : Type := Option (Int32 ⊕ Int64 ⊕ (Int32 × Int32))
/-- an answer, or a fault that is thrown; the state behind -/
abbrev fv_O : Type := (fv_R ⊕ (Int32 × Int32)) × fv_S
def fv_si (σ : fv_S) (a : Nat) (v : Int32) : fv_S := (va_up σ.1 a v, σ.2)
def fv_sl (σ : fv_S) (a : Nat) (v : Int64) : fv_S := (σ.1, va_up σ.2.1 a v, σ.2.2)
def fv_sw (σ : fv_S) (k : Nat) (f : Nat → Int32) : fv_S := (σ.1, σ.2.1, va_up σ.2.2.1 k f, σ.2.2.2)
def fv_sa (σ : fv_S) (k : Nat) (i : Int32) (v : Int32) : fv_S := fv_sw σ k (upd (σ.2.2.1 k) i.toNatClampNeg v)
def fv_sc (σ : fv_S) : fv_S := (σ.1, σ.2.1, σ.2.2.1, σ.2.2.2 + 1)
abbrev fv_gi (σ : fv_S) (a : Nat) : Int32 := σ.1 a
abbrev fv_gl (σ : fv_S) (a : Nat) : Int64 := σ.2.1 a
abbrev fv_gw (σ : fv_S) (k : Nat) : Nat → Int32 := σ.2.2.1 k
abbrev fv_ga (σ : fv_S) (k : Nat) (i : Int32) : Int32 := σ.2.2.1 k i.toNatClampNeg
abbrev fv_n (σ : fv_S) : Nat := σ.2.2.2
def fv_rv (σ : fv_S) : Option fv_O := some (.inl none, σ)
def fv_ri (v : Int32) (σ : fv_S) : Option fv_O := some (.inl (some (.inl v)), σ)
def fv_rl (v : Int64) (σ : fv_S) : Option fv_O := some (.inl (some (.inr (.inl v))), σ)
def fv_ra (n p : Int32) (σ : fv_S) : Option fv_O := some (.inl (some (.inr (.inr (n, p)))), σ)
def fv_th (n p : Int32) (σ : fv_S) : Option fv_O := some (.inr (n, p), σ)
def fv_bv (o : Option fv_O) (k : fv_S → Option fv_O) (h : Int32 → Int32 → fv_S → Option fv_O) : Option fv_O := match o with
  | some (.inl none, σ) => k σ
  | some (.inr (a, b), σ) => h a b σ
  | _ => none
def fv_bi (o : Option fv_O) (k : Int32 → fv_S → Option fv_O) (h : Int32 → Int32 → fv_S → Option fv_O) : Option fv_O := match o with
  | some (.inl (some (.inl r)), σ) => k r σ
  | some (.inr (a, b), σ) => h a b σ
  | _ => none
def fv_bl (o : Option fv_O) (k : Int64 → fv_S → Option fv_O) (h : Int32 → Int32 → fv_S → Option fv_O) : Option fv_O := match o with
  | some (.inl (some (.inr (.inl r))), σ) => k r σ
  | some (.inr (a, b), σ) => h a b σ
  | _ => none
def fv_ba (o : Option fv_O) (k : Int32 → Int32 → fv_S → Option fv_O) (h : Int32 → Int32 → fv_S → Option fv_O) : Option fv_O := match o with
  | some (.inl (some (.inr (.inr (n, p)))), σ) => k n p σ
  | some (.inr (a, b), σ) => h a b σ
  | _ => none
/-- an index within -/
abbrev fv_in (i : Int32) (n : Nat) : Prop := ¬ (i < 0 ∨ n ≤ i.toNatClampNeg)
/-- the graph: objects (class; for each field 0 an int, 1 a long, k + 2 the node k), arrays (element: 0 int, 1 byte, 2 boolean, 3 strings; length) -/
abbrev fv_N : Type := List ((Nat × List Nat) ⊕ (Nat × Nat))
theorem fv_bv_rv (σ : fv_S) (k : fv_S → Option fv_O) (h : Int32 → Int32 → fv_S → Option fv_O) : fv_bv (fv_rv σ) k h = k σ := rfl
theorem fv_bi_ri (v : Int32) (σ : fv_S) (k : Int32 → fv_S → Option fv_O) (h : Int32 → Int32 → fv_S → Option fv_O) : fv_bi (fv_ri v σ) k h = k v σ := rfl
theorem fv_bl_rl (v : Int64) (σ : fv_S) (k : Int64 → fv_S → Option fv_O) (h : Int32 → Int32 → fv_S → Option fv_O) : fv_bl (fv_rl v σ) k h = k v σ := rfl
theorem fv_ba_ra (n p : Int32) (σ : fv_S) (k : Int32 → Int32 → fv_S → Option fv_O) (h : Int32 → Int32 → fv_S → Option fv_O) : fv_ba (fv_ra n p σ) k h = k n p σ := rfl
theorem fv_bv_th (n p : Int32) (σ : fv_S) (k : fv_S → Option fv_O) (h : Int32 → Int32 → fv_S → Option fv_O) : fv_bv (fv_th n p σ) k h = h n p σ := rfl
theorem fv_bi_th (n p : Int32) (σ : fv_S) (k : Int32 → fv_S → Option fv_O) (h : Int32 → Int32 → fv_S → Option fv_O) : fv_bi (fv_th n p σ) k h = h n p σ := rfl
theorem fv_bl_th (n p : Int32) (σ : fv_S) (k : Int64 → fv_S → Option fv_O) (h : Int32 → Int32 → fv_S → Option fv_O) : fv_bl (fv_th n p σ) k h = h n p σ := rfl
theorem fv_ba_th (n p : Int32) (σ : fv_S) (k : Int32 → Int32 → fv_S → Option fv_O) (h : Int32 → Int32 → fv_S → Option fv_O) : fv_ba (fv_th n p σ) k h = h n p σ := rfl
def fxStr : List (List Int32) := [[78, 79, 80], [69, 88], [68, 74, 78, 90], [74, 82], [76, 68], [65, 68, 68], [73, 78, 67], [68, 69, 67], [82, 76, 67, 65], [82, 82, 67, 65], [82, 76, 65], [82, 82, 65], [68, 65, 65], [67, 80, 76], [83, 67, 70], [67, 67, 70], [72, 65, 76, 84], [65, 68, 67], [83, 85, 66], [83, 66, 67], [65, 78, 68], [88, 79, 82], [79, 82], [67, 80], [82, 69, 84], [80, 79, 80], [69, 88, 88], [74, 80], [79, 85, 84], [73, 78], [68, 73], [69, 73], [67, 65, 76, 76], [80, 85, 83, 72], [82, 83, 84], [82, 76, 67], [82, 82, 67], [82, 76], [82, 82], [83, 76, 65], [83, 82, 65], [83, 82, 76], [66, 73, 84], [82, 69, 83], [83, 69, 84], [78, 69, 71], [82, 69, 84, 78], [82, 69, 84, 73], [73, 77], [82, 82, 68], [82, 76, 68], [76, 68, 73], [67, 80, 73], [73, 78, 73], [79, 85, 84, 73], [76, 68, 68], [67, 80, 68], [73, 78, 68], [79, 85, 84, 68], [76, 68, 73, 82], [67, 80, 73, 82], [73, 78, 73, 82], [79, 84, 73, 82], [76, 68, 68, 82], [67, 80, 68, 82], [73, 78, 68, 82], [79, 84, 68, 82], [79, 82, 71], [69, 81, 85], [68, 66], [68, 87], [68, 83], [73, 70], [69, 76, 83, 69], [69, 78, 68, 73, 70], [65], [66], [67], [68], [69], [72], [76], [73], [82], [65, 70], [65, 70, 39], [66, 67], [68, 69], [72, 76], [83, 80], [73, 88], [73, 89], [78, 90], [90], [78, 67], [80, 79], [80, 69], [80], [77], [68, 66, 32], [79, 82, 71, 32], [40, 41, 44, 58, 43, 45, 42, 47, 38, 124, 94, 126, 64]]
def fv_no (_ _ : Int32) (_ : fv_S) : Option fv_O := none
theorem fv_bv_no {o : Option fv_O} {k : fv_S → Option fv_O} {x : fv_O} (h : fv_bv o k fv_no = some x) : ∃ σ, o = some (.inl none, σ) ∧ k σ = some x := by
  unfold fv_bv at h
  split at h
  · exact ⟨_, rfl, h⟩
  · cases h
  · cases h
theorem fv_bi_no {o : Option fv_O} {k : Int32 → fv_S → Option fv_O} {x : fv_O} (h : fv_bi o k fv_no = some x) : ∃ r σ, o = some (.inl (some (.inl r)), σ) ∧ k r σ = some x := by
  unfold fv_bi at h
  split at h
  · exact ⟨_, _, rfl, h⟩
  · cases h
  · cases h
theorem fv_bl_no {o : Option fv_O} {k : Int64 → fv_S → Option fv_O} {x : fv_O} (h : fv_bl o k fv_no = some x) : ∃ r σ, o = some (.inl (some (.inr (.inl r))), σ) ∧ k r σ = some x := by
  unfold fv_bl at h
  split at h
  · exact ⟨_, _, rfl, h⟩
  · cases h
  · cases h
/-- strings by number: their lengths and signs -/
def fv_sl0 (k : Nat) : Nat := (fxStr.getD k []).length
def fv_sln (k : Nat) : Int32 := Int32.ofNat (fv_sl0 k)
def fv_sch (k : Nat) (i : Int32) : Int32 := (fxStr.getD k []).getD i.toNatClampNeg 0
/-- System.arraycopy between two arrays of ints, of bytes -/
abbrev fv_jok (ns nd : Nat) (sp dp n : Int32) : Prop := ¬ sp < 0 ∧ ¬ dp < 0 ∧ ¬ n < 0 ∧ sp.toNatClampNeg + n.toNatClampNeg ≤ ns ∧ dp.toNatClampNeg + n.toNatClampNeg ≤ nd
abbrev fv_jfit (f : Nat → Int32) (sp n : Int32) : Prop := ∀ i, i < n.toNatClampNeg → fits .byte (.int (f (sp.toNatClampNeg + i))) = true
noncomputable def fv_jci (ks ns kd nd : Nat) (sp dp n : Int32) (σ : fv_S) : Option fv_O :=
  if fv_jok ns nd sp dp n then fv_rv (fv_sw σ kd (va_cpy (fv_gw σ ks) (fv_gw σ kd) sp.toNatClampNeg dp.toNatClampNeg n.toNatClampNeg)) else none
noncomputable def fv_jcb (ks ns kd nd : Nat) (sp dp n : Int32) (σ : fv_S) : Option fv_O :=
  if fv_jok ns nd sp dp n ∧ fv_jfit (fv_gw σ ks) sp n then fv_rv (fv_sw σ kd (va_cpy (fv_gw σ ks) (fv_gw σ kd) sp.toNatClampNeg dp.toNatClampNeg n.toNatClampNeg)) else none
