set_option maxRecDepth 100000
set_option maxHeartbeats 4000000
/-! The plain law: forms with IX and IY; the whole table. -/
def p_kw (k v j : Nat) : Nat := if k = 1 ∧ v = 6 then (if j = 1 then 9 else 10) else k
def p_vw (k v i j : Nat) : Nat := if k = 2 ∧ v = 2 then 6 + i else if k = 1 ∧ v = 6 then (if j = 1 then 5 + i else i) else v
def p_iP (m : p_F) : Nat := if (m.2.2.2.1 = 2 ∧ m.2.2.2.2.1 = 2) ∨ (m.2.2.2.2.2.1 = 2 ∧ m.2.2.2.2.2.2 = 2) then 1 else 0
def p_iA (m : p_F) : Nat := if (m.2.2.2.1 = 1 ∧ m.2.2.2.2.1 = 6) ∨ (m.2.2.2.2.2.1 = 1 ∧ m.2.2.2.2.2.2 = 6) then 1 else 0
def p_iE (m : p_F) : Nat := if m.2.2.1 = 1 ∧ m.2.2.2.1 = 2 then 1 else 0
def p_iJ (m : p_F) : Nat := if m.2.2.1 = 27 then 1 else 0
def p_ie (m : p_F) (i : Nat) : p_F := ((if m.1 = 1 then 5 else 3) + i, m.2.1, m.2.2.1, p_kw m.2.2.2.1 m.2.2.2.2.1 (p_iJ m), p_vw m.2.2.2.1 m.2.2.2.2.1 i (p_iJ m), p_kw m.2.2.2.2.2.1 m.2.2.2.2.2.2 (p_iJ m), p_vw m.2.2.2.2.2.1 m.2.2.2.2.2.2 i (p_iJ m))
def p_ix (m : p_F) : List p_F := if m.1 = 2 ∨ p_iE m = 1 ∨ (p_iP m = 0 ∧ p_iA m = 0) then [] else [p_ie m 0, p_ie m 1]
def p_fsm (m : p_F) : Prop := m.1 < 256 ∧ m.2.1 < 256 ∧ m.2.2.1 < 256 ∧ m.2.2.2.1 < 256 ∧ m.2.2.2.2.1 < 256 ∧ m.2.2.2.2.2.1 < 256 ∧ m.2.2.2.2.2.2 < 256
theorem p_lit {n : Nat} (h : n < 256) (m : Nat) (hm : m < 256) : (Int32.ofNat n = Int32.ofNat m) = (n = m) := by
  apply propext; constructor
  · intro e; have := congrArg Int32.toInt e; rw [p_ofn n (by omega), p_ofn m (by omega)] at this; omega
  · intro e; rw [e]
theorem f_kw {k v j : Nat} (hk : k < 256) (hv : v < 256) (hj : j = 0 ∨ j = 1) (σ : fv_S) : zF_X2_kindWith (Int32.ofNat k) (Int32.ofNat v) (Int32.ofNat j) σ = fv_ri (Int32.ofNat (p_kw k v j)) σ := by
  unfold zF_X2_kindWith p_kw
  simp only [(show (Int32.ofNat k = (1 : Int32)) = (k = 1) from p_lit hk 1 (by omega)), (show (Int32.ofNat v = (6 : Int32)) = (v = 6) from p_lit hv 6 (by omega)), (show (Int32.ofNat j = (0 : Int32)) = (j = 0) from p_lit (show j < 256 by omega) 0 (by omega))]
  by_cases c1 : k = 1
  · by_cases c2 : v = 6
    · rcases hj with rfl | rfl
      · simp [c1, c2]
      · simp [c1, c2]
    · simp [c1, c2]
  · simp [c1]
theorem f_vw {k v i j : Nat} (hk : k < 256) (hv : v < 256) (hj : j = 0 ∨ j = 1) (σ : fv_S) : zF_X2_valueWith (Int32.ofNat k) (Int32.ofNat v) (Int32.ofNat i) (Int32.ofNat j) σ = fv_ri (Int32.ofNat (p_vw k v i j)) σ := by
  unfold zF_X2_valueWith zF_X2_valueWith_17 p_vw
  simp only [(show (Int32.ofNat k = (1 : Int32)) = (k = 1) from p_lit hk 1 (by omega)), (show (Int32.ofNat k = (2 : Int32)) = (k = 2) from p_lit hk 2 (by omega)), (show (Int32.ofNat v = (2 : Int32)) = (v = 2) from p_lit hv 2 (by omega)), (show (Int32.ofNat v = (6 : Int32)) = (v = 6) from p_lit hv 6 (by omega)), (show (Int32.ofNat j = (0 : Int32)) = (j = 0) from p_lit (show j < 256 by omega) 0 (by omega))]
  rw [show (6 : Int32) + Int32.ofNat i = Int32.ofNat (6 + i) from (Int32.ofNat_add 6 i).symm, show (5 : Int32) + Int32.ofNat i = Int32.ofNat (5 + i) from (Int32.ofNat_add 5 i).symm]
  by_cases c0 : k = 2
  · by_cases c3 : v = 2
    · simp [c0, c3]
    · simp [c0, c3]
  · by_cases c1 : k = 1
    · by_cases c2 : v = 6
      · rcases hj with rfl | rfl
        · simp [c1, c2]
        · simp [c1, c2]
      · simp [c1, c2]
    · simp [c0, c1]
theorem f_ix {N : Nat} (hN : 3 ≤ N) {σ : fv_S} {L : List p_F} (h : pFS σ L) (hl : L.length + 2 ≤ 900) {k : Nat} (hk : k < L.length) (hs : p_fsm L[k]) (hp : L[k].1 < 3) : ∃ σ', zF_X2_indexed N (Int32.ofNat k) σ = fv_rv σ' ∧ pFS σ' (L ++ p_ix L[k]) ∧ fv_n σ' = fv_n σ := by
  generalize hm : L[k] = m at hs hp ⊢
  obtain ⟨i1, i2⟩ := p_inN k 900 (by omega) (by omega)
  have rd : ∀ {σ : fv_S} {L' : List p_F}, pFS σ L' → (hk' : k < L'.length) → L'[k] = m → fv_ga σ 6 (Int32.ofNat k) = Int32.ofNat m.1 ∧ fv_ga σ 7 (Int32.ofNat k) = Int32.ofNat m.2.1 ∧ fv_ga σ 1 (Int32.ofNat k) = Int32.ofNat m.2.2.1 ∧ fv_ga σ 2 (Int32.ofNat k) = Int32.ofNat m.2.2.2.1 ∧ fv_ga σ 3 (Int32.ofNat k) = Int32.ofNat m.2.2.2.2.1 ∧ fv_ga σ 4 (Int32.ofNat k) = Int32.ofNat m.2.2.2.2.2.1 ∧ fv_ga σ 5 (Int32.ofNat k) = Int32.ofNat m.2.2.2.2.2.2 := by
    intro σ L' h hk' e
    have := h.2.1 k hk'
    rw [e] at this
    obtain ⟨a1, a2, a3, a4, a5, a6, a7⟩ := this
    refine ⟨?_, ?_, ?_, ?_, ?_, ?_, ?_⟩
    · show fv_gw σ 6 (Int32.ofNat k).toNatClampNeg = _; rw [i2]; exact a1
    · show fv_gw σ 7 (Int32.ofNat k).toNatClampNeg = _; rw [i2]; exact a2
    · show fv_gw σ 1 (Int32.ofNat k).toNatClampNeg = _; rw [i2]; exact a3
    · show fv_gw σ 2 (Int32.ofNat k).toNatClampNeg = _; rw [i2]; exact a4
    · show fv_gw σ 3 (Int32.ofNat k).toNatClampNeg = _; rw [i2]; exact a5
    · show fv_gw σ 4 (Int32.ofNat k).toNatClampNeg = _; rw [i2]; exact a6
    · show fv_gw σ 5 (Int32.ofNat k).toNatClampNeg = _; rw [i2]; exact a7
  obtain ⟨b1, b2, b3, b4, b5, b6, b7⟩ := hs
  obtain ⟨g6, g7, g1, g2, g3, g4, g5⟩ := rd h hk hm
  have jb : p_iJ m = 0 ∨ p_iJ m = 1 := by unfold p_iJ; split <;> simp
  have q1 : zF_X2_indexed N (Int32.ofNat k) σ = zF_X2_indexed_45 N (Int32.ofNat k) (Int32.ofNat (p_iP m)) σ := by
    unfold zF_X2_indexed zF_X2_indexed_20 zF_X2_indexed_40 zF_X2_indexed_44 p_iP
    simp only [if_pos i1, g2, g3, g4, g5]
    simp only [(show (Int32.ofNat m.2.2.2.1 = (2 : Int32)) = (m.2.2.2.1 = 2) from p_lit b4 2 (by omega)), (show (Int32.ofNat m.2.2.2.2.1 = (2 : Int32)) = (m.2.2.2.2.1 = 2) from p_lit b5 2 (by omega)), (show (Int32.ofNat m.2.2.2.2.2.1 = (2 : Int32)) = (m.2.2.2.2.2.1 = 2) from p_lit b6 2 (by omega)), (show (Int32.ofNat m.2.2.2.2.2.2 = (2 : Int32)) = (m.2.2.2.2.2.2 = 2) from p_lit b7 2 (by omega))]
    by_cases c1 : m.2.2.2.1 = 2
    · by_cases c2 : m.2.2.2.2.1 = 2
      · simp [c1, c2]
      · by_cases c3 : m.2.2.2.2.2.1 = 2
        · by_cases c4 : m.2.2.2.2.2.2 = 2
          · simp [c1, c2, c3, c4]
          · simp [c1, c2, c3, c4]
        · simp [c1, c2, c3]
    · by_cases c3 : m.2.2.2.2.2.1 = 2
      · by_cases c4 : m.2.2.2.2.2.2 = 2
        · simp [c1, c3, c4]
        · simp [c1, c3, c4]
      · simp [c1, c3]
  have q2 : zF_X2_indexed_45 N (Int32.ofNat k) (Int32.ofNat (p_iP m)) σ = zF_X2_indexed_93 N (Int32.ofNat k) (Int32.ofNat (p_iP m)) (Int32.ofNat (p_iA m)) σ := by
    unfold zF_X2_indexed_45 zF_X2_indexed_67 zF_X2_indexed_88 zF_X2_indexed_92
    generalize hq : Int32.ofNat (p_iP m) = q
    unfold p_iA
    simp only [if_pos i1, g2, g3, g4, g5]
    simp only [(show (Int32.ofNat m.2.2.2.1 = (1 : Int32)) = (m.2.2.2.1 = 1) from p_lit b4 1 (by omega)), (show (Int32.ofNat m.2.2.2.2.1 = (6 : Int32)) = (m.2.2.2.2.1 = 6) from p_lit b5 6 (by omega)), (show (Int32.ofNat m.2.2.2.2.2.1 = (1 : Int32)) = (m.2.2.2.2.2.1 = 1) from p_lit b6 1 (by omega)), (show (Int32.ofNat m.2.2.2.2.2.2 = (6 : Int32)) = (m.2.2.2.2.2.2 = 6) from p_lit b7 6 (by omega))]
    by_cases c1 : m.2.2.2.1 = 1
    · by_cases c2 : m.2.2.2.2.1 = 6
      · simp [c1, c2]
      · by_cases c3 : m.2.2.2.2.2.1 = 1
        · by_cases c4 : m.2.2.2.2.2.2 = 6
          · simp [c1, c2, c3, c4]
          · simp [c1, c2, c3, c4]
        · simp [c1, c2, c3]
    · by_cases c3 : m.2.2.2.2.2.1 = 1
      · by_cases c4 : m.2.2.2.2.2.2 = 6
        · simp [c1, c3, c4]
        · simp [c1, c3, c4]
      · simp [c1, c3]
  have q3 : zF_X2_indexed_93 N (Int32.ofNat k) (Int32.ofNat (p_iP m)) (Int32.ofNat (p_iA m)) σ = zF_X2_indexed_119 N (Int32.ofNat k) (Int32.ofNat (p_iP m)) (Int32.ofNat (p_iA m)) (Int32.ofNat (p_iE m)) σ := by
    unfold zF_X2_indexed_93 zF_X2_indexed_118
    generalize Int32.ofNat (p_iP m) = q
    generalize Int32.ofNat (p_iA m) = q'
    unfold p_iE
    simp only [if_pos i1, g1, g2]
    simp only [(show (Int32.ofNat m.2.2.1 = (1 : Int32)) = (m.2.2.1 = 1) from p_lit b3 1 (by omega)), (show (Int32.ofNat m.2.2.2.1 = (2 : Int32)) = (m.2.2.2.1 = 2) from p_lit b4 2 (by omega))]
    by_cases c1 : m.2.2.1 = 1
    · by_cases c2 : m.2.2.2.1 = 2
      · simp [c1, c2]
      · simp [c1, c2]
    · simp [c1]
  have one : ∀ {σ : fv_S} {L' : List p_F} (i n : Nat), pFS σ L' → (hk' : k < L'.length) → L'[k] = m → L'.length < 900 → i < 2 → ∃ σ', zF_X2_indexed_148 N (n + 1) (Int32.ofNat k) (Int32.ofNat i) σ = zF_X2_indexed_148 N n (Int32.ofNat k) (Int32.ofNat (i + 1)) σ' ∧ pFS σ' (L' ++ [p_ie m i]) ∧ fv_n σ' = fv_n σ := by
    intro σ L' i n h hk' e hl' hi
    obtain ⟨g6, g7, g1, g2, g3, g4, g5⟩ := rd h hk' e
    have fo : p_fok (p_ie m i) := ⟨by show (if m.1 = 1 then 5 else 3) + i < 7; split <;> omega, b2⟩
    obtain ⟨σ', x, y, z⟩ := f_add h hl' (p_ie m i) fo
    refine ⟨σ', ?_, y, z⟩
    have key : ∀ s : Nat, s = (if m.1 = 1 then 5 else 3) → zF_X2_indexed_169 N (zF_X2_indexed_148 N n) (Int32.ofNat k) (Int32.ofNat i) (Int32.ofNat s) σ = zF_X2_indexed_148 N n (Int32.ofNat k) (Int32.ofNat (i + 1)) σ' := by
      intro s hs
      have k2 : zF_X2_indexed_190 N (zF_X2_indexed_148 N n) (Int32.ofNat k) (Int32.ofNat i) (Int32.ofNat s + Int32.ofNat i) (Int32.ofNat (p_iJ m)) σ = zF_X2_indexed_148 N n (Int32.ofNat k) (Int32.ofNat (i + 1)) σ' := by
        unfold zF_X2_indexed_190
        simp only [if_pos i1]
        rw [g2, g3, f_kw b4 b5 jb, fv_bi_ri, g2, g3, f_vw b4 b5 jb, fv_bi_ri, g4, g5, f_kw b6 b7 jb, fv_bi_ri, g4, g5, f_vw b6 b7 jb, fv_bi_ri, g7, g1, ← Int32.ofNat_add, hs]
        rw [show zF_X2_add (Int32.ofNat ((if m.1 = 1 then 5 else 3) + i)) (Int32.ofNat m.2.1) (Int32.ofNat m.2.2.1) (Int32.ofNat (p_kw m.2.2.2.1 m.2.2.2.2.1 (p_iJ m))) (Int32.ofNat (p_vw m.2.2.2.1 m.2.2.2.2.1 i (p_iJ m))) (Int32.ofNat (p_kw m.2.2.2.2.2.1 m.2.2.2.2.2.2 (p_iJ m))) (Int32.ofNat (p_vw m.2.2.2.2.2.1 m.2.2.2.2.2.2 i (p_iJ m))) σ = fv_rv σ' from x, fv_bv_rv, p_sucN]
      unfold zF_X2_indexed_169
      rw [if_pos i1, g1]
      simp only [(show (Int32.ofNat m.2.2.1 = (27 : Int32)) = (m.2.2.1 = 27) from p_lit b3 27 (by omega))]
      by_cases c : m.2.2.1 = 27
      · rw [if_neg (not_not_intro c)]
        have : p_iJ m = 1 := if_pos c
        rw [this] at k2; exact k2
      · rw [if_pos c]
        have : p_iJ m = 0 := if_neg c
        rw [this] at k2; exact k2
    show zF_X2_indexed_148_b _ _ _ _ _ = _
    unfold zF_X2_indexed_148_b
    rw [if_neg (show ¬ (2 : Int32) ≤ Int32.ofNat i from fun c => by have := (p_leN 2 i (by omega) (by omega)).1 c; omega), if_pos i1, g6]
    simp only [(show (Int32.ofNat m.1 = (1 : Int32)) = (m.1 = 1) from p_lit b1 1 (by omega))]
    by_cases c : m.1 = 1
    · rw [if_neg (not_not_intro c)]; exact key 5 (by rw [if_pos c])
    · rw [if_pos c]; exact key 3 (by rw [if_neg c])
  rw [q1, q2, q3]
  have pb' : p_iP m = 0 ∨ p_iP m = 1 := by unfold p_iP; split <;> simp
  have ab' : p_iA m = 0 ∨ p_iA m = 1 := by unfold p_iA; split <;> simp
  have eb' : p_iE m = 0 ∨ p_iE m = 1 := by unfold p_iE; split <;> simp
  have nothing : (m.1 = 2 ∨ p_iE m = 1 ∨ (p_iP m = 0 ∧ p_iA m = 0)) → pFS σ (L ++ p_ix m) := by
    intro c
    unfold p_ix
    rw [if_pos c, List.append_nil]; exact h
  have both : ¬ (m.1 = 2 ∨ p_iE m = 1 ∨ (p_iP m = 0 ∧ p_iA m = 0)) → ∃ σ', zF_X2_indexed_148 N N (Int32.ofNat k) 0 σ = fv_rv σ' ∧ pFS σ' (L ++ p_ix m) ∧ fv_n σ' = fv_n σ := by
    intro c
    obtain ⟨n, rfl⟩ : ∃ n, N = n + 3 := ⟨N - 3, by omega⟩
    obtain ⟨σ1, x1, y1, z1⟩ := one 0 (n + 2) h hk hm (by omega) (by omega)
    obtain ⟨σ2, x2, y2, z2⟩ := one 1 (n + 1) y1 (by simp; omega) (by rw [List.getElem_append_left hk]; exact hm) (by simp; omega) (by omega)
    refine ⟨σ2, ?_, ?_, z2.trans z1⟩
    · rw [show (0 : Int32) = Int32.ofNat 0 from rfl, x1, x2]; rfl
    · unfold p_ix
      rw [if_neg c]
      rw [List.append_assoc] at y2; exact y2
  unfold zF_X2_indexed_119
  rw [if_pos i1, g6]
  simp only [(show (Int32.ofNat m.1 = (2 : Int32)) = (m.1 = 2) from p_lit b1 2 (by omega))]
  by_cases c0 : m.1 = 2
  · rw [if_pos c0]; exact ⟨σ, rfl, nothing (Or.inl c0), rfl⟩
  · rw [if_neg c0]
    rcases eb' with e1 | e1
    · rw [e1, if_neg (by decide)]
      rcases pb' with p1 | p1
      · rw [p1, if_neg (by decide)]
        rcases ab' with a1 | a1
        · rw [a1, if_neg (by decide)]; exact ⟨σ, rfl, nothing (Or.inr (Or.inr ⟨p1, a1⟩)), rfl⟩
        · rw [a1, if_pos (by decide)]; exact both (by rw [e1, p1, a1]; simp [c0])
      · rw [p1, if_pos (by decide)]; exact both (by rw [e1, p1]; simp [c0])
    · rw [e1, if_pos (by decide)]; exact ⟨σ, rfl, nothing (Or.inr (Or.inl e1)), rfl⟩
