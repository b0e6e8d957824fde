set_option maxRecDepth 100000
set_option maxHeartbeats 4000000
/-! The plain law: an instruction in the model: its octets are laid. -/
def mJ (B : Nat → Nat) (n : Nat) (sec : Bool) (L : List (List Nat × Int32)) (h : Nat) (I : List (Bool × Bool)) (org : Nat) (M : qMem) (τ0 : fv_S) (l : List Nat) (τ : fv_S) : Prop := mZ B n sec L (h + l.length) I org τ ∧ mFy τ0 τ ∧ mMe (qlm l M h) τ
theorem mJ_lay {B : Nat → Nat} {n : Nat} {sec : Bool} {L : List (List Nat × Int32)} {h : Nat} {I : List (Bool × Bool)} {org : Nat} {M : qMem} {τ0 τ : fv_S} {l : List Nat} (H : mJ B n sec L h I org M τ0 l τ) (hB : M.2.1 ≤ 2000000000 + h) (b : Int32) (hh : True → h + (l ++ [qoc b]).length ≤ 65536) : ∃ τ', zX8_lay b τ = fv_rv τ' ∧ mJ B n sec L h I org M τ0 (l ++ [qoc b]) τ' := by
  obtain ⟨h1, h2, h3⟩ := H
  have hl := hh trivial
  rw [List.length_append] at hl
  have t : [qoc b].length = 1 := rfl
  obtain ⟨τ', x1, x2, x3, x4⟩ := m_lay h1 h3 (by omega) (by rw [qlm_c]; omega) b
  refine ⟨τ', x1, ?_, mFy_t h2 x3, ?_⟩
  · rw [List.length_append]; exact x2
  · rw [qlm_app]; exact x4
/-- what laying an instruction reads -/
def mDt (fr mi code bs : Nat) (mv : Bool) (a56 a57 : Int32) (τ : fv_S) : Prop := fv_gi τ 29 = Int32.ofNat fr ∧ fv_gi τ 30 = Int32.ofNat mi ∧ fv_gi τ 32 = Int32.ofNat bs ∧ (mv = true ↔ ¬ fv_gi τ 36 < 0) ∧ fv_gi τ 56 = a56 ∧ fv_gi τ 57 = a57 ∧ fr < 256 ∧ mi < 256 ∧ bs ≤ 3 ∧ code < 256 ∧ (if fv_gi τ 34 = 2 then (fv_gi τ 31 + (8 * fv_gi τ 55) * 0) + fv_gi τ 55 else (fv_gi τ 31 + (8 * fv_gi τ 55) * 1) + 0) = Int32.ofNat code
def mi4 (bs : Nat) (a57 : Int32) : List Nat := (if bs = 0 then [] else [qoc a57]) ++ (if bs = 2 then [qoc (a57 >>> 8)] else [])
def mi3 (mi code bs : Nat) (mv : Bool) (a56 a57 : Int32) : List Nat := [code] ++ ((if mv = true ∧ mi = 0 then [qoc a56] else []) ++ mi4 bs a57)
def mi2 (mi code bs : Nat) (mv : Bool) (a56 a57 : Int32) : List Nat := (if mv = true ∧ mi ≠ 0 then [qoc a56] else []) ++ mi3 mi code bs mv a56 a57
def mi1 (mi code bs : Nat) (mv : Bool) (a56 a57 : Int32) : List Nat := (if mi = 0 then [] else [mi]) ++ mi2 mi code bs mv a56 a57
def mi0 (fr mi code bs : Nat) (mv : Bool) (a56 a57 : Int32) : List Nat := (if fr = 0 then [] else [fr]) ++ mi1 mi code bs mv a56 a57
theorem mDt_j {B : Nat → Nat} {n : Nat} {sec : Bool} {L : List (List Nat × Int32)} {h : Nat} {I : List (Bool × Bool)} {org : Nat} {M : qMem} {τ0 τ : fv_S} {l : List Nat} (H : mJ B n sec L h I org M τ0 l τ) {fr mi code bs : Nat} {mv : Bool} {a56 a57 : Int32} (D : mDt fr mi code bs mv a56 a57 τ0) : mDt fr mi code bs mv a56 a57 τ := by
  have g : ∀ k, k ≠ 20 → k ≠ 39 → k ≠ 40 → fv_gi τ k = fv_gi τ0 k := H.2.1.1
  unfold mDt
  rw [g 29 (by omega) (by omega) (by omega), g 30 (by omega) (by omega) (by omega), g 31 (by omega) (by omega) (by omega), g 32 (by omega) (by omega) (by omega), g 34 (by omega) (by omega) (by omega), g 36 (by omega) (by omega) (by omega), g 55 (by omega) (by omega) (by omega), g 56 (by omega) (by omega) (by omega), g 57 (by omega) (by omega) (by omega)]
  exact D
theorem mJ_192 {B : Nat → Nat} {n N : Nat} {sec : Bool} {L : List (List Nat × Int32)} {h : Nat} {I : List (Bool × Bool)} {org : Nat} {M : qMem} {τ0 τ : fv_S} {l : List Nat} (H : mJ B n sec L h I org M τ0 l τ) (hB : M.2.1 ≤ 2000000000 + h) {fr mi code bs : Nat} {mv : Bool} {a56 a57 : Int32} (D : mDt fr mi code bs mv a56 a57 τ0) (hh : True → h + (l ++ mi4 bs a57).length ≤ 65536) : ∃ τ', zX8_layInstruction_192 N τ = fv_ri 1 τ' ∧ mJ B n sec L h I org M τ0 (l ++ mi4 bs a57) τ' := by
  have D1 := mDt_j H D
  have e32 := D1.2.2.1
  have e57 := D1.2.2.2.2.2.1
  have b3 := D1.2.2.2.2.2.2.2.2.1
  unfold zX8_layInstruction_192 zX8_layInstruction_207
  rw [e32, e57]
  have n2 : Int32.ofNat bs = 2 ↔ bs = 2 := p_eqN bs 2 (by omega) (by omega)
  have n0 : Int32.ofNat bs ≤ 0 ↔ bs = 0 := (p_leN bs 0 (by omega) (by omega)).trans (by omega)
  by_cases c0 : bs = 0
  · have e : mi4 bs a57 = [] := by unfold mi4; rw [if_pos c0, if_neg (by omega)]; rfl
    rw [e, List.append_nil, if_pos (n0.2 c0), if_pos (show ¬ Int32.ofNat bs = 2 from fun x => absurd (n2.1 x) (by omega))]
    exact ⟨τ, rfl, H⟩
  · rw [if_neg (fun x => c0 (n0.1 x))]
    obtain ⟨a1, a2, a3⟩ := qi_le hh (if bs = 0 then [] else [qoc a57]) _ rfl
    rw [if_neg c0] at a1 a2 a3
    obtain ⟨τ1, x1, x2⟩ := mJ_lay H hB a57 a1
    have D2 := mDt_j x2 D
    rw [x1, fv_bv_rv, D2.2.2.1, D2.2.2.2.2.2.1, a3]
    by_cases c2 : bs = 2
    · rw [if_pos c2] at a2 ⊢
      rw [if_neg (show ¬ ¬ Int32.ofNat bs = 2 from not_not_intro (n2.2 c2))]
      obtain ⟨τ2, y1, y2⟩ := mJ_lay x2 hB (a57 >>> 8) a2
      rw [y1, fv_bv_rv]
      exact ⟨τ2, rfl, y2⟩
    · rw [if_neg c2, List.append_nil, if_pos (show ¬ Int32.ofNat bs = 2 from fun x => c2 (n2.1 x))]
      exact ⟨τ1, rfl, x2⟩
theorem mJ_123 {B : Nat → Nat} {n N : Nat} {sec : Bool} {L : List (List Nat × Int32)} {h : Nat} {I : List (Bool × Bool)} {org : Nat} {M : qMem} {τ0 τ : fv_S} {l : List Nat} (H : mJ B n sec L h I org M τ0 l τ) (hB : M.2.1 ≤ 2000000000 + h) {fr mi code bs : Nat} {mv : Bool} {a56 a57 : Int32} (D : mDt fr mi code bs mv a56 a57 τ0) (hh : True → h + (l ++ mi3 mi code bs mv a56 a57).length ≤ 65536) : ∃ τ', zX8_layInstruction_123 N τ = fv_ri 1 τ' ∧ mJ B n sec L h I org M τ0 (l ++ mi3 mi code bs mv a56 a57) τ' := by
  have D1 := mDt_j H D
  obtain ⟨d29, d30, d32, d36, d56, d57, d1, d2, d3, d4, d5⟩ := D1
  obtain ⟨a1, a2, a3⟩ := qi_le hh [code] _ rfl
  have oc : qoc (Int32.ofNat code) = code := qoc_n _ d4
  have body : ∃ τ', (fv_bv (zX8_lay (Int32.ofNat code) τ) (fun σ3 => if (fv_gi σ3 36) < 0 then zX8_layInstruction_192 N σ3 else if ¬ (fv_gi σ3 30) = 0 then zX8_layInstruction_192 N σ3 else fv_bv (zX8_lay (fv_gi σ3 56) σ3) (fun σ4 => zX8_layInstruction_192 N σ4) fv_no) fv_no) = fv_ri 1 τ' ∧ mJ B n sec L h I org M τ0 (l ++ mi3 mi code bs mv a56 a57) τ' := by
    obtain ⟨τ1, x1, x2⟩ := mJ_lay H hB (Int32.ofNat code) (by rw [oc]; exact a1)
    rw [oc] at x2
    have D2 := mDt_j x2 D
    rw [x1, fv_bv_rv, a3]
    have n0 : fv_gi τ1 30 = 0 ↔ mi = 0 := by rw [D2.2.1]; exact p_eqN mi 0 (by omega) (by omega)
    by_cases cm : mv = true
    · rw [if_neg (D2.2.2.2.1.1 cm)]
      by_cases c0 : mi = 0
      · rw [if_pos (show mv = true ∧ mi = 0 from ⟨cm, c0⟩)] at a2 ⊢
        rw [if_neg (show ¬ ¬ fv_gi τ1 30 = 0 from not_not_intro (n0.2 c0)), D2.2.2.2.2.1]
        obtain ⟨b1, b2, b3⟩ := qi_le a2 [qoc a56] _ rfl
        obtain ⟨τ2, y1, y2⟩ := mJ_lay x2 hB a56 b1
        rw [y1, fv_bv_rv, b3]
        exact mJ_192 y2 hB D b2
      · rw [if_neg (show ¬ (mv = true ∧ mi = 0) from fun e => c0 e.2)] at a2 ⊢
        rw [if_pos (show ¬ fv_gi τ1 30 = 0 from fun e => c0 (n0.1 e))]
        exact mJ_192 x2 hB D a2
    · rw [if_neg (show ¬ (mv = true ∧ mi = 0) from fun e => cm e.1)] at a2 ⊢
      rw [if_pos (show fv_gi τ1 36 < 0 from Classical.not_not.1 (fun e => cm (D2.2.2.2.1.2 e)))]
      exact mJ_192 x2 hB D a2
  unfold zX8_layInstruction_123 zX8_layInstruction_148 zX8_layInstruction_166
  by_cases c2 : fv_gi τ 34 = 2
  · rw [if_pos c2] at d5
    rw [if_neg (show ¬ ¬ fv_gi τ 34 = 2 from not_not_intro c2), if_neg (show ¬ ¬ fv_gi τ 34 = 2 from not_not_intro c2), d5]
    exact body
  · rw [if_neg c2] at d5
    rw [if_pos (show ¬ fv_gi τ 34 = 2 from c2), if_pos (show ¬ fv_gi τ 34 = 2 from c2), d5]
    exact body
theorem mJ_71 {B : Nat → Nat} {n N : Nat} {sec : Bool} {L : List (List Nat × Int32)} {h : Nat} {I : List (Bool × Bool)} {org : Nat} {M : qMem} {τ0 τ : fv_S} {l : List Nat} (H : mJ B n sec L h I org M τ0 l τ) (hB : M.2.1 ≤ 2000000000 + h) {fr mi code bs : Nat} {mv : Bool} {a56 a57 : Int32} (D : mDt fr mi code bs mv a56 a57 τ0) (hh : True → h + (l ++ mi0 fr mi code bs mv a56 a57).length ≤ 65536) : ∃ τ', zX8_layInstruction_71 N τ = fv_ri 1 τ' ∧ mJ B n sec L h I org M τ0 (l ++ mi0 fr mi code bs mv a56 a57) τ' := by
  obtain ⟨d29, d30, d32, d36, d56, d57, d1, d2, d3, d4, d5⟩ := D
  have D := (⟨d29, d30, d32, d36, d56, d57, d1, d2, d3, d4, d5⟩ : mDt fr mi code bs mv a56 a57 τ0)
  have s101 : ∀ (τ : fv_S) (l : List Nat), mJ B n sec L h I org M τ0 l τ → (True → h + (l ++ mi2 mi code bs mv a56 a57).length ≤ 65536) → ∃ τ', zX8_layInstruction_101 N τ = fv_ri 1 τ' ∧ mJ B n sec L h I org M τ0 (l ++ mi2 mi code bs mv a56 a57) τ' := by
    intro τ l H hh
    have D1 := mDt_j H D
    unfold zX8_layInstruction_101
    unfold mi2 at hh ⊢
    have n0 : fv_gi τ 30 ≤ 0 ↔ mi = 0 := by rw [D1.2.1]; exact (p_leN mi 0 (by omega) (by omega)).trans (by omega)
    by_cases cm : mv = true
    · rw [if_neg (D1.2.2.2.1.1 cm)]
      by_cases c0 : mi = 0
      · rw [if_neg (show ¬ (mv = true ∧ mi ≠ 0) from fun e => e.2 c0)] at hh ⊢
        rw [if_pos (n0.2 c0)]
        exact mJ_123 H hB D hh
      · rw [if_pos (show mv = true ∧ mi ≠ 0 from ⟨cm, c0⟩)] at hh ⊢
        rw [if_neg (fun e => c0 (n0.1 e)), D1.2.2.2.2.1]
        obtain ⟨b1, b2, b3⟩ := qi_le hh [qoc a56] _ rfl
        obtain ⟨τ2, y1, y2⟩ := mJ_lay H hB a56 b1
        rw [y1, fv_bv_rv, b3]
        exact mJ_123 y2 hB D b2
    · rw [if_neg (show ¬ (mv = true ∧ mi ≠ 0) from fun e => cm e.1)] at hh ⊢
      rw [if_pos (show fv_gi τ 36 < 0 from Classical.not_not.1 (fun e => cm (D1.2.2.2.1.2 e)))]
      exact mJ_123 H hB D hh
  have s86 : ∀ (τ : fv_S) (l : List Nat), mJ B n sec L h I org M τ0 l τ → (True → h + (l ++ mi1 mi code bs mv a56 a57).length ≤ 65536) → ∃ τ', zX8_layInstruction_86 N τ = fv_ri 1 τ' ∧ mJ B n sec L h I org M τ0 (l ++ mi1 mi code bs mv a56 a57) τ' := by
    intro τ l H hh
    have D1 := mDt_j H D
    unfold zX8_layInstruction_86
    unfold mi1 at hh ⊢
    have n0 : Int32.ofNat mi ≤ 0 ↔ mi = 0 := (p_leN mi 0 (by omega) (by omega)).trans (by omega)
    have oc : qoc (Int32.ofNat mi) = mi := qoc_n _ d2
    rw [D1.2.1]
    by_cases c0 : mi = 0
    · rw [if_pos c0] at hh ⊢
      rw [if_pos (n0.2 c0)]
      exact s101 τ l H hh
    · rw [if_neg c0] at hh ⊢
      rw [if_neg (fun e => c0 (n0.1 e))]
      obtain ⟨b1, b2, b3⟩ := qi_le hh [mi] _ rfl
      obtain ⟨τ2, y1, y2⟩ := mJ_lay H hB (Int32.ofNat mi) (by rw [oc]; exact b1)
      rw [oc] at y2
      rw [y1, fv_bv_rv, b3]
      exact s101 τ2 _ y2 b2
  have D1 := mDt_j H D
  unfold zX8_layInstruction_71
  unfold mi0 at hh ⊢
  have n0 : Int32.ofNat fr ≤ 0 ↔ fr = 0 := (p_leN fr 0 (by omega) (by omega)).trans (by omega)
  have oc : qoc (Int32.ofNat fr) = fr := qoc_n _ d1
  rw [D1.1]
  by_cases c0 : fr = 0
  · rw [if_pos c0] at hh ⊢
    rw [if_pos (n0.2 c0)]
    exact s86 τ l H hh
  · rw [if_neg c0] at hh ⊢
    rw [if_neg (fun e => c0 (n0.1 e))]
    obtain ⟨b1, b2, b3⟩ := qi_le hh [fr] _ rfl
    obtain ⟨τ2, y1, y2⟩ := mJ_lay H hB (Int32.ofNat fr) (by rw [oc]; exact b1)
    rw [oc] at y2
    rw [y1, fv_bv_rv, b3]
    exact s86 τ2 _ y2 b2
/-- the model's octets are the class's -/
theorem qol_b (k : Nat) (v nx : Int32) : qol k v nx = mi4 (e_bk k) (if e_bk k = 3 then (Int32.toInt16 (v - nx)).toInt32 else v) := by
  obtain ⟨a1, a2, a3, a4⟩ := e_bke k
  unfold qol mi4
  by_cases c1 : k = 6
  · rw [if_pos c1, a3.2 c1, if_pos rfl, qoc_16]; rfl
  · rw [if_neg c1]
    by_cases c2 : k = 4 ∨ k = 8
    · rw [if_pos c2, a1.2 c2]; rfl
    · rw [if_neg c2]
      by_cases c3 : k = 5 ∨ k = 7
      · rw [if_pos c3, a2.2 c3]; rfl
      · rw [if_neg c3, a4.2 (by omega)]; rfl
theorem mi_qIl {w c0 c1 : Nat} {g : p_F} (hG : eG w c0 c1 g) {v0 v1 nx iv a56 a57 : Int32} (h6 : g.2.2.2.1 = 10 ∨ g.2.2.2.2.2.1 = 10 → a56 = iv) (h70 : e_bk g.2.2.2.1 ≠ 0 → a57 = if e_bk g.2.2.2.1 = 3 then (Int32.toInt16 (v0 - nx)).toInt32 else v0) (h71 : e_bk g.2.2.2.2.2.1 ≠ 0 → a57 = if e_bk g.2.2.2.2.2.1 = 3 then (Int32.toInt16 (v1 - nx)).toInt32 else v1) : mi0 (e_fr g.1) (e_mi g.1) g.2.1 (e_bk g.2.2.2.1 + e_bk g.2.2.2.2.2.1) (decide (g.2.2.2.1 = 10 ∨ g.2.2.2.2.2.1 = 10)) a56 a57 = qIl g iv v0 v1 nx := by
  have m40 : ∀ a, mi4 0 a = [] := fun _ => rfl
  have e4 : mi4 (e_bk g.2.2.2.1 + e_bk g.2.2.2.2.2.1) a57 = qi2 g v0 v1 nx := by
    unfold qi2
    rw [qol_b, qol_b]
    by_cases b0 : e_bk g.2.2.2.1 = 0
    · rw [b0, Nat.zero_add, m40, List.nil_append]
      by_cases b1 : e_bk g.2.2.2.2.2.1 = 0
      · rw [b1, m40, m40]
      · rw [h71 b1]
    · have b1 := (hG.2.2.2.2.2.1 b0).2
      rw [b1, Nat.add_zero, m40, List.append_nil, h70 b0]
  have hP : g.1 ≤ 6 := hG.2.2.2.2.2.2.2.2.2.2.2.1
  have h5 := hG.2.2.2.2.2.2.2.2.2.2.1
  have h12 := hG.2.2.2.2.2.2.2.2.2.1
  unfold mi0 mi1 mi2 mi3 qIl qi0 qi1
  rw [e4]
  have P7 : g.1 = 0 ∨ g.1 = 1 ∨ g.1 = 2 ∨ g.1 = 3 ∨ g.1 = 4 ∨ g.1 = 5 ∨ g.1 = 6 := by omega
  by_cases cx : g.2.2.2.1 = 10 ∨ g.2.2.2.2.2.1 = 10
  · rw [decide_eq_true cx, h6 cx]
    simp only [cx, and_true]
    rcases P7 with e | e | e | e | e | e | e
    · rw [e, show e_fr 0 = 0 from rfl, show e_mi 0 = 0 from rfl]; simp
    · exact absurd (h12 (Or.inl e)) (fun h => cx.elim h.1 h.2)
    · exact absurd (h12 (Or.inr e)) (fun h => cx.elim h.1 h.2)
    · rw [e, show e_fr 3 = 221 from rfl, show e_mi 3 = 0 from rfl]; simp
    · rw [e, show e_fr 4 = 253 from rfl, show e_mi 4 = 0 from rfl]; simp
    · rw [e, show e_fr 5 = 221 from rfl, show e_mi 5 = 203 from rfl]; simp
    · rw [e, show e_fr 6 = 253 from rfl, show e_mi 6 = 203 from rfl]; simp
  · rw [decide_eq_false cx]
    simp only [cx, and_false]
    have n5 : ¬ 5 ≤ g.1 := fun h => cx (h5 h)
    rcases P7 with e | e | e | e | e | e | e
    · rw [e, show e_fr 0 = 0 from rfl, show e_mi 0 = 0 from rfl]; simp
    · rw [e, show e_fr 1 = 0 from rfl, show e_mi 1 = 203 from rfl]; simp
    · rw [e, show e_fr 2 = 0 from rfl, show e_mi 2 = 237 from rfl]; simp
    · rw [e, show e_fr 3 = 221 from rfl, show e_mi 3 = 0 from rfl]; simp
    · rw [e, show e_fr 4 = 253 from rfl, show e_mi 4 = 0 from rfl]; simp
    · omega
    · omega
theorem m_lgt {w : Nat} {f : p_F} {s : fv_S} (h : eE w f s) (hP : f.1 ≤ 6) (h1 : e_bk f.2.2.2.1 ≠ 0 → e_bk f.2.2.2.2.2.1 = 0) : zX8_lengthOf s = fv_ri (Int32.ofNat (e_sz f)) s := by
  obtain ⟨e29, e30, e32, e34, e36, _⟩ := h
  have bk : ∀ k, e_bk k ≤ 3 := fun k => by unfold e_bk; cases (Nat.beq k 4 || Nat.beq k 8) <;> cases (Nat.beq k 5 || Nat.beq k 7) <;> cases Nat.beq k 6 <;> decide
  have b0 := bk f.2.2.2.1
  have b1 := bk f.2.2.2.2.2.1
  have t36 : fv_gi s 36 < 0 ↔ ¬ (f.2.2.2.1 = 10 ∨ f.2.2.2.2.2.1 = 10) := by
    rw [e36]
    by_cases c : f.2.2.2.1 = 10
    · rw [if_pos c]; exact ⟨fun h => absurd h (by decide), fun h => absurd (Or.inl c) h⟩
    · rw [if_neg c]
      by_cases c' : f.2.2.2.2.2.1 = 10
      · rw [if_pos c']; exact ⟨fun h => absurd h (by decide), fun h => absurd (Or.inr c') h⟩
      · rw [if_neg c']; exact ⟨fun _ h => h.elim c c', fun _ => by decide⟩
  have s39 : ∀ a b : Int32, zX8_lengthOf_39 a b s = fv_ri (a + b + Int32.ofNat (e_bz (e_bk f.2.2.2.1) + e_bz (e_bk f.2.2.2.2.2.1))) s := by
    intro a b
    unfold zX8_lengthOf_39
    rw [e32]
    have tot : ∀ x y : Nat, x ≤ 3 → y ≤ 3 → (x ≠ 0 → y = 0) → (if ¬ Int32.ofNat (x + y) = 2 then (if Int32.ofNat (x + y) ≤ 0 then fv_ri ((a + b) + (0 : Int32)) s else fv_ri ((a + b) + (1 : Int32)) s) else fv_ri ((a + b) + (2 : Int32)) s) = fv_ri (a + b + Int32.ofNat (e_bz x + e_bz y)) s := by
      intro x y hx hy hxy
      have : (x = 0 ∧ y = 0) ∨ (x = 0 ∧ y = 1) ∨ (x = 0 ∧ y = 2) ∨ (x = 0 ∧ y = 3) ∨ (x = 1 ∧ y = 0) ∨ (x = 2 ∧ y = 0) ∨ (x = 3 ∧ y = 0) := by omega
      rcases this with ⟨rfl, rfl⟩ | ⟨rfl, rfl⟩ | ⟨rfl, rfl⟩ | ⟨rfl, rfl⟩ | ⟨rfl, rfl⟩ | ⟨rfl, rfl⟩ | ⟨rfl, rfl⟩ <;> rfl
    exact tot _ _ b0 b1 h1
  have es : e_sz f = ((bif Nat.beq f.1 0 then 1 else bif Nat.ble 5 f.1 then 3 else 2) + (bif decide (f.2.2.2.1 = 10 ∨ f.2.2.2.2.2.1 = 10) then 1 else 0)) + (e_bz (e_bk f.2.2.2.1) + e_bz (e_bk f.2.2.2.2.2.1)) := by unfold e_sz; rw [e_ixe]; omega
  have fr : ∀ P, e_fr P < 256 := fun P => by unfold e_fr; cases (Nat.beq P 3 || Nat.beq P 5) <;> cases (Nat.beq P 4 || Nat.beq P 6) <;> decide
  have mi : ∀ P, e_mi P < 256 := fun P => by unfold e_mi; cases Nat.beq P 2 <;> cases (Nat.beq P 1 || Nat.ble 5 P) <;> decide
  have f0 : Int32.ofNat (e_fr f.1) ≤ 0 ↔ e_fr f.1 = 0 := (p_leN _ 0 (by have := fr f.1; omega) (by omega)).trans (by omega)
  have m0 : Int32.ofNat (e_mi f.1) ≤ 0 ↔ e_mi f.1 = 0 := (p_leN _ 0 (by have := mi f.1; omega) (by omega)).trans (by omega)
  unfold zX8_lengthOf zX8_lengthOf_12 zX8_lengthOf_24
  rw [es, Int32.ofNat_add]
  simp only [s39]
  generalize Int32.ofNat (e_bz (e_bk f.2.2.2.1) + e_bz (e_bk f.2.2.2.2.2.1)) = X
  simp only [e29, e30, t36, f0, m0]
  have P7 : f.1 = 0 ∨ f.1 = 1 ∨ f.1 = 2 ∨ f.1 = 3 ∨ f.1 = 4 ∨ f.1 = 5 ∨ f.1 = 6 := by omega
  by_cases cx : f.2.2.2.1 = 10 ∨ f.2.2.2.2.2.1 = 10
  · simp only [cx, not_true, if_false]
    rcases P7 with e | e | e | e | e | e | e <;> rw [e] <;> rfl
  · simp only [cx, not_false_iff, if_true]
    rcases P7 with e | e | e | e | e | e | e <;> rw [e] <;> rfl
theorem qOp_neg {B : Nat → Nat} {n p : Nat} (h : (qOp B n p).2.2.1 = true) : (qOp B n p).1 = 4 := by
  revert h
  unfold qOp
  split
  · split
    · split
      · intro h; exact absurd (show false = true from h) (by decide)
      · intro _; rfl
    · split
      · intro h; exact absurd (show false = true from h) (by decide)
      · intro h; exact absurd (show false = true from h) (by decide)
  · split
    · intro h; exact absurd (show false = true from h) (by decide)
    · intro h; exact absurd (show false = true from h) (by decide)
theorem e_k109 : p_TL.all (fun f => !Nat.beq f.2.2.2.1 10 || !Nat.beq f.2.2.2.2.2.1 9) = true := by decide +kernel
theorem e_k3 {w c0 j0 c1 j1 : Nat} {f : p_F} (hf : eFd w c0 j0 c1 j1 true 0 = some f) (hG : eG w c0 c1 f) (h : f.2.2.2.1 = 10) : c1 ≠ 3 ∧ c1 ≠ 4 := by
  have n10 := (hG.2.2.2.1 h).2
  refine ⟨fun e => ?_, fun e => n10 (hG.2.2.1 e)⟩
  unfold eFd at hf
  have hm := List.mem_of_find?_eq_some hf
  have hq := List.find?_some hf
  have h9 := List.all_eq_true.1 e_k109 f hm
  rw [nb_t.2 h] at h9
  have n9 : Nat.beq f.2.2.2.2.2.1 9 = false := by
    cases hb : Nat.beq f.2.2.2.2.2.1 9 with
    | false => rfl
    | true => rw [hb] at h9; exact absurd h9 (by decide)
  unfold qfp at hq
  rw [Bool.and_eq_true, Bool.and_eq_true] at hq
  have q2 := hq.2.2
  rw [e] at q2
  unfold qft at q2
  rw [n9, nb_f n10] at q2
  revert q2
  cases Nat.beq f.2.2.2.2.2.1 0 <;> cases Nat.beq f.2.2.2.2.2.1 1 <;> cases Nat.beq f.2.2.2.2.2.1 2 <;> cases Nat.beq f.2.2.2.2.2.1 3 <;> cases (Nat.beq f.2.2.2.2.2.1 7 || Nat.beq f.2.2.2.2.2.1 8) <;> cases (Nat.beq f.2.2.2.2.2.1 11 || Nat.beq f.2.2.2.2.2.1 12 || Nat.beq f.2.2.2.2.2.1 13) <;> cases Nat.beq f.2.2.2.2.2.1 14 <;> cases Nat.beq f.2.2.2.2.2.2 6 <;> intro q2 <;> exact absurd q2 (by simp)
theorem eE_k {w : Nat} {f : p_F} {s t : fv_S} (h : eE w f s) (g : ∀ k, 29 ≤ k → k ≤ 36 → fv_gi t k = fv_gi s k) : eE w f t := by
  obtain ⟨h1, h2, h3, h4, h5, h6⟩ := h
  exact ⟨(g 29 (by omega) (by omega)).trans h1, (g 30 (by omega) (by omega)).trans h2, (g 32 (by omega) (by omega)).trans h3, (g 34 (by omega) (by omega)).trans h4, (g 36 (by omega) (by omega)).trans h5, fun x => (g 35 (by omega) (by omega)).trans (h6 x)⟩
/-- all numbers are worked out: the octets are laid -/
theorem m_fin2 {B : Nat → Nat} {n N w : Nat} {sec : Bool} {L : List (List Nat × Int32)} {h : Nat} {I : List (Bool × Bool)} {org : Nat} {M : qMem} {s : fv_S} {g : p_F} {c0 c1 : Nat} {v0 v1 nx iv : Int32} (z : mZ B n sec L h I org s) (hM : mMe M s) (hB : M.2.1 ≤ 2000000000 + h) (hl : h + e_sz g ≤ 65536) (hE : eE w g s) (hG : eG w c0 c1 g) (hu : e_pk w = 0 ∨ qU v0 ∈ e_us (e_pk w)) (h31 : fv_gi s 31 + Int32.ofNat (e_co (e_pk w) (qU v0)) = Int32.ofNat g.2.1)
    (h55 : fv_gi s 55 = if e_pk w = 0 then 0 else v0) (h56 : g.2.2.2.1 = 10 ∨ g.2.2.2.2.2.1 = 10 → fv_gi s 56 = iv) (h70 : e_bk g.2.2.2.1 ≠ 0 → fv_gi s 57 = if e_bk g.2.2.2.1 = 3 then (Int32.toInt16 (v0 - nx)).toInt32 else v0) (h71 : e_bk g.2.2.2.2.2.1 ≠ 0 → fv_gi s 57 = if e_bk g.2.2.2.2.2.1 = 3 then (Int32.toInt16 (v1 - nx)).toInt32 else v1) (x2 : Int32) :
    ∃ τ', (if ¬ (fv_gi s 34) = (3 : Int32) then zX8_layInstruction_71 N (fv_si s 2 x2) else if ¬ (fv_gi s 55) = 0 then zX8_layInstruction_68 N ((fv_gi s 55) + (1 : Int32)) (fv_si s 2 x2) else zX8_layInstruction_68 N 0 (fv_si s 2 x2)) = fv_ri 1 τ' ∧ mFo s τ' ∧ fv_gi τ' 2 = x2 ∧ mZ B n sec L (h + e_sz g) I org τ' ∧ mMe (qlm (qIl g iv v0 v1 nx) M h) τ' := by
  have bk : ∀ k, e_bk k ≤ 3 := fun k => by unfold e_bk; cases (Nat.beq k 4 || Nat.beq k 8) <;> cases (Nat.beq k 5 || Nat.beq k 7) <;> cases Nat.beq k 6 <;> decide
  have fr : ∀ P, e_fr P < 256 := fun P => by unfold e_fr; cases (Nat.beq P 3 || Nat.beq P 5) <;> cases (Nat.beq P 4 || Nat.beq P 6) <;> decide
  have mi : ∀ P, e_mi P < 256 := fun P => by unfold e_mi; cases Nat.beq P 2 <;> cases (Nat.beq P 1 || Nat.ble 5 P) <;> decide
  have hP : g.1 ≤ 6 := hG.2.2.2.2.2.2.2.2.2.2.2.1
  have hO : g.2.1 ≤ 255 := hG.2.2.2.2.2.2.2.2.2.2.2.2
  have h5 := hG.2.2.2.2.2.2.2.2.2.2.1
  obtain ⟨e29, e30, e32, e34, e36, e35⟩ := hE
  have sum3 : e_bk g.2.2.2.1 + e_bk g.2.2.2.2.2.1 ≤ 3 := by
    have := bk g.2.2.2.1
    have := bk g.2.2.2.2.2.1
    by_cases c : e_bk g.2.2.2.1 = 0
    · omega
    · have := (hG.2.2.2.2.2.1 c).2; omega
  have pk4 := e_pk4 w
  have v0u : e_pk w ≠ 0 → v0 = Int32.ofNat (qU v0) := by
    intro hp
    have hm := hu.resolve_left hp
    have lt : ∀ k, k < 4 → ∀ u ∈ e_us k, u < 64 := by decide
    exact (qU_e v0 (qU v0) (lt _ pk4 _ hm)).2 rfl
  have mv : (decide (g.2.2.2.1 = 10 ∨ g.2.2.2.2.2.1 = 10) = true ↔ ¬ fv_gi s 36 < 0) := by
    rw [e36, decide_eq_true_iff]
    by_cases c : g.2.2.2.1 = 10
    · rw [if_pos c]; exact ⟨fun _ => by decide, fun _ => Or.inl c⟩
    · rw [if_neg c]
      by_cases c' : g.2.2.2.2.2.1 = 10
      · rw [if_pos c']; exact ⟨fun _ => by decide, fun _ => Or.inr c'⟩
      · rw [if_neg c']; exact ⟨fun h => absurd h (fun h => h.elim c c'), fun h => absurd (by decide) h⟩
  -- the state laid from: x is the part
  have go : ∀ (s' : fv_S), (∀ k, k ≠ 2 → k ≠ 55 → fv_gi s' k = fv_gi s k) → s'.2 = s.2 → fv_gi s' 2 = x2 → (if fv_gi s' 34 = 2 then (fv_gi s' 31 + (8 * fv_gi s' 55) * 0) + fv_gi s' 55 else (fv_gi s' 31 + (8 * fv_gi s' 55) * 1) + 0) = Int32.ofNat g.2.1 → ∃ τ', zX8_layInstruction_71 N s' = fv_ri 1 τ' ∧ mFo s τ' ∧ fv_gi τ' 2 = x2 ∧ mZ B n sec L (h + e_sz g) I org τ' ∧ mMe (qlm (qIl g iv v0 v1 nx) M h) τ' := by
    intro s' g1 g2 g3 hc
    have gw : ∀ a, fv_gw s' a = fv_gw s a := fun a => by show s'.2.2.1 a = _; rw [g2]
    have z' : mZ B n sec L h I org s' := by
      obtain ⟨z1, z2, z3, z4, z5, z6, z7, z8⟩ := z
      exact ⟨⟨(g1 1 (by omega) (by omega)).trans z1.1, by rw [gw]; exact z1.2⟩, ⟨(g1 13 (by omega) (by omega)).trans z2.1, z2.2.1, by rw [gw, gw, gw]; exact z2.2.2⟩, (g1 _ (by omega) (by omega)).trans z3, (g1 _ (by omega) (by omega)).trans z4, (g1 _ (by omega) (by omega)).trans z5, (g1 _ (by omega) (by omega)).trans z6, (g1 _ (by omega) (by omega)).trans z7, mIf_c I s _ (fun i _ => by rw [gw, gw]; exact ⟨rfl, rfl⟩) z8⟩
    have J : mJ B n sec L h I org M s' [] s' := ⟨z', mFy_r s', mMe_s hM ⟨gw 14, g1 39 (by omega) (by omega), g1 40 (by omega) (by omega)⟩⟩
    have D : mDt (e_fr g.1) (e_mi g.1) g.2.1 (e_bk g.2.2.2.1 + e_bk g.2.2.2.2.2.1) (decide (g.2.2.2.1 = 10 ∨ g.2.2.2.2.2.1 = 10)) (fv_gi s 56) (fv_gi s 57) s' := by
      refine ⟨(g1 29 (by omega) (by omega)).trans e29, (g1 30 (by omega) (by omega)).trans e30, (g1 32 (by omega) (by omega)).trans e32, ?_, g1 56 (by omega) (by omega), g1 57 (by omega) (by omega), fr _, mi _, sum3, by omega, hc⟩
      rw [g1 36 (by omega) (by omega)]; exact mv
    have eq := mi_qIl hG h56 h70 h71
    have len := qIl_len hP h5 iv v0 v1 nx
    obtain ⟨τ', x1, y1, y2, y3⟩ := mJ_71 (N := N) J hB D (fun _ => by rw [eq, List.nil_append, len]; exact hl)
    rw [eq, List.nil_append] at y1 y3
    rw [len] at y1
    refine ⟨τ', x1, mFo_t ⟨fun k hk => g1 k (by omega) (by omega), fun k _ => by show s'.2.1 k = _; rw [g2], fun a _ => gw a, by show s'.2.2.2 = _; rw [g2]⟩ (mFo_y y2), (y2.1 2 (by omega) (by omega) (by omega)).trans g3, y1, y3⟩
  have si : ∀ k, k ≠ 2 → fv_gi (fv_si s 2 x2) k = fv_gi s k := fun k hk => if_neg hk
  have e3 : fv_gi s 34 = 3 ↔ e_pk w = 3 := by rw [e34]; exact p_eqN _ 3 (by omega) (by omega)
  have e2 : fv_gi s 34 = 2 ↔ e_pk w = 2 := by rw [e34]; exact p_eqN _ 2 (by omega) (by omega)
  by_cases p3 : e_pk w = 3
  · have p0 : e_pk w ≠ 0 := by omega
    have hm := hu.resolve_left p0
    rw [p3] at hm h31
    rw [if_neg p0] at h55
    have hv := v0u p0
    rw [if_neg (show ¬ ¬ fv_gi s 34 = 3 from not_not_intro (e3.2 p3))]
    unfold zX8_layInstruction_68
    have fin : ∀ x : Int32, 8 * x * 1 = Int32.ofNat (e_co 3 (qU v0)) → ∃ τ', zX8_layInstruction_71 N (fv_si (fv_si s 2 x2) 55 x) = fv_ri 1 τ' ∧ mFo s τ' ∧ fv_gi τ' 2 = x2 ∧ mZ B n sec L (h + e_sz g) I org τ' ∧ mMe (qlm (qIl g iv v0 v1 nx) M h) τ' := by
      intro x hx
      refine go _ (fun k a b => (if_neg b).trans (if_neg a)) rfl rfl ?_
      show (if fv_gi s 34 = 2 then fv_gi s 31 + 8 * x * 0 + x else fv_gi s 31 + 8 * x * 1 + 0) = _
      rw [if_neg (show ¬ fv_gi s 34 = 2 from fun e => by have := e2.1 e; omega)]
      rw [hx, h31, Int32.add_zero]
    by_cases c0 : fv_gi s 55 = 0
    · rw [if_neg (not_not_intro c0)]
      refine fin 0 ?_
      rw [h55] at c0
      have : qU v0 = 0 := (qU_e v0 0 (by omega)).1 c0
      rw [this]; rfl
    · rw [if_pos c0]
      refine fin _ ?_
      rw [h55]
      have : ∀ u ∈ e_us 3, ¬ Int32.ofNat u = 0 → 8 * (Int32.ofNat u + 1) * 1 = Int32.ofNat (e_co 3 u) := by decide +kernel
      rw [h55, hv] at c0
      have := this _ hm c0
      rw [← this, ← hv]
  · rw [if_pos (show ¬ fv_gi s 34 = 3 from fun e => p3 (e3.1 e))]
    refine go _ (fun k a b => si k a) rfl rfl ?_
    show (if fv_gi s 34 = 2 then (fv_gi s 31 + (8 * fv_gi s 55) * 0) + fv_gi s 55 else (fv_gi s 31 + (8 * fv_gi s 55) * 1) + 0) = _
    rw [h55]
    by_cases p2 : e_pk w = 2
    · rw [if_pos (e2.2 p2), if_neg (by omega), Int32.mul_zero, Int32.add_zero]
      rw [p2] at h31
      have hm := hu.resolve_left (by omega)
      rw [v0u (by omega)]
      exact h31
    · rw [if_neg (fun e => p2 (e2.1 e)), Int32.add_zero, ← h31]
      by_cases p0 : e_pk w = 0
      · rw [if_pos p0, p0]
        show fv_gi s 31 + 8 * 0 * 1 = fv_gi s 31 + Int32.ofNat 0
        rfl
      · rw [if_neg p0]
        have p1 : e_pk w = 1 := by omega
        have hm := hu.resolve_left p0
        rw [p1] at hm ⊢
        have : ∀ u ∈ e_us 1, 8 * Int32.ofNat u * 1 = Int32.ofNat (e_co 1 u) := by decide +kernel
        rw [← this _ hm, ← v0u p0]
