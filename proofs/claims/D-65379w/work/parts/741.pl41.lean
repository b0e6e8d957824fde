set_option maxRecDepth 100000
set_option maxHeartbeats 4000000
/-! The plain law: source. -/
def p_a7 (v : Int32) : Prop := ∃ c, c < 128 ∧ v = Int32.ofNat c
theorem p_a7b {v : Int32} (h : p_a7 v) : pb v ∧ p_se v = v := by
  obtain ⟨c, hc, rfl⟩ := h
  have : ∀ c, c < 128 → (Int32.ofNat c &&& 255 = Int32.ofNat c) ∧ p_se (Int32.ofNat c) = Int32.ofNat c := by decide +kernel
  exact this c hc
theorem p_fit {v : Int32} (h : p_se v = v) : fits .byte (.int v) = true := by
  have e : v.toInt = (Int32.toInt8 v).toInt := by
    have := congrArg Int32.toInt h
    rw [← this]; unfold p_se; simp
  have l1 := Int8.le_toInt (Int32.toInt8 v)
  have l2 := Int8.toInt_lt (Int32.toInt8 v)
  show (decide ((-128 : Int32) ≤ v) && decide (v ≤ (127 : Int32))) = true
  rw [Bool.and_eq_true, decide_eq_true_eq, decide_eq_true_eq, p_le, p_le, e]
  exact ⟨by show (-128 : Int) ≤ _; omega, by show _ ≤ (127 : Int); omega⟩
theorem x_dl (N len : Nat) : ∀ (d n j m : Nat) (σ : fv_S), len - j = d → j ≤ len → len ≤ 64 → n + d + 1 ≤ 6050 → d + 1 ≤ m → fv_gi σ 4097 = Int32.ofNat len → fv_gi σ 14 = Int32.ofNat n → (∀ i, p_se (fv_gw σ 33 i) = fv_gw σ 33 i) →
    ∃ σ', zX0_draftLine_2 N m (Int32.ofNat j) σ = fv_rv σ' ∧ (∀ k, k ≠ 14 → fv_gi σ' k = fv_gi σ k) ∧ (∀ k, k ≠ 45 → fv_gw σ' k = fv_gw σ k) ∧ σ'.2.1 = σ.2.1 ∧ fv_n σ' = fv_n σ ∧ fv_gi σ' 14 = Int32.ofNat (n + d + 1) ∧ ∀ i, fv_gw σ' 45 i = if i < n then fv_gw σ 45 i else if i < n + d then fv_gw σ 33 (j + (i - n)) else if i = n + d then 10 else fv_gw σ 45 i := by
  intro d
  induction d with
  | zero =>
    intro n j m σ e hj hl hn hm h1 h2 hb
    obtain ⟨m, rfl⟩ : ∃ k, m = k + 1 := ⟨m - 1, by omega⟩
    obtain ⟨i1, i2⟩ := p_inN n 6100 (by omega) (by omega)
    refine ⟨fv_sa (fv_si σ 14 (Int32.ofNat (n + 1))) 45 (Int32.ofNat n) 10, ?_, fun k hk => if_neg hk, fun k hk => if_neg hk, rfl, rfl, rfl, ?_⟩
    · show zX0_draftLine_2_b _ _ _ _ = _
      unfold zX0_draftLine_2_b zX0_draftLine_54
      rw [h1, h2, if_pos ((p_leN len j (by omega) (by omega)).2 (by omega)), if_neg (show ¬ (6050 : Int32) ≤ Int32.ofNat n from fun c => by have := (p_leN 6050 n (by omega) (by omega)).1 c; omega), if_pos i1, p_sucN]
      rfl
    · intro i
      show upd (fv_gw σ 45) (Int32.ofNat n).toNatClampNeg 10 i = _
      unfold upd; rw [i2]
      by_cases c : i = n
      · subst c; rw [if_pos rfl, if_neg (by omega), if_neg (by omega), if_pos (by omega)]
      · rw [if_neg c, if_neg (show ¬ i = n + 0 by omega)]
        by_cases c2 : i < n
        · rw [if_pos c2]
        · rw [if_neg c2, if_neg (by omega)]
  | succ d ih =>
    intro n j m σ e hj hl hn hm h1 h2 hb
    obtain ⟨m, rfl⟩ : ∃ k, m = k + 1 := ⟨m - 1, by omega⟩
    obtain ⟨i1, i2⟩ := p_inN n 6100 (by omega) (by omega)
    obtain ⟨j1, j2⟩ := p_inN j 64 (by omega) (by omega)
    obtain ⟨σ', x, a1, a2, a3, a4, a5, a6⟩ := ih (n + 1) (j + 1) m (fv_sa (fv_si σ 14 (Int32.ofNat (n + 1))) 45 (Int32.ofNat n) (fv_gw σ 33 j)) (by omega) (by omega) hl (by omega) (by omega) h1 rfl hb
    refine ⟨σ', ?_, fun k hk => (a1 k hk).trans (if_neg hk), fun k hk => (a2 k hk).trans (if_neg hk), a3, a4, a5.trans (congrArg Int32.ofNat (by omega)), ?_⟩
    · show zX0_draftLine_2_b _ _ _ _ = _
      unfold zX0_draftLine_2_b
      rw [h1, h2, if_neg (fun c => by have := (p_leN len j (by omega) (by omega)).1 c; omega), if_neg (show ¬ (6050 : Int32) ≤ Int32.ofNat n from fun c => by have := (p_leN 6050 n (by omega) (by omega)).1 c; omega), if_pos j1, if_pos i1, p_sucN, p_sucN]
      rw [show (Int32.toInt8 (fv_ga σ 33 (Int32.ofNat j))).toInt32 = fv_gw σ 33 j by show p_se (fv_gw σ 33 (Int32.ofNat j).toNatClampNeg) = _; rw [j2]; exact hb j]
      exact x
    · intro i
      have v : fv_gw (fv_sa (fv_si σ 14 (Int32.ofNat (n + 1))) 45 (Int32.ofNat n) (fv_gw σ 33 j)) 45 i = if i = n then fv_gw σ 33 j else fv_gw σ 45 i := by
        show upd (fv_gw σ 45) (Int32.ofNat n).toNatClampNeg (fv_gw σ 33 j) i = _
        unfold upd; rw [i2]
      rw [a6 i, v]
      by_cases c : i < n
      · rw [if_pos (show i < n + 1 by omega), if_neg (by omega), if_pos c]
      · rw [if_neg c]
        by_cases c2 : i = n
        · subst c2; rw [if_pos (by omega), if_pos rfl, if_pos (by omega)]; congr 1; omega
        · rw [if_neg (by omega), if_neg c2]
          by_cases c3 : i < n + 1 + d
          · rw [if_pos c3, if_pos (by omega)]
            show fv_gw σ 33 (j + 1 + (i - (n + 1))) = _
            congr 1; omega
          · rw [if_neg c3, if_neg (show ¬ i < n + (d + 1) by omega)]
            by_cases c4 : i = n + 1 + d
            · rw [if_pos c4, if_pos (by omega)]
            · rw [if_neg c4, if_neg (by omega)]
theorem m_84 (N : Nat) (k33 : Int32 → Int32 → Int32 → Int32 → Int32 → fv_S → Option fv_O) (x1 x2 x4 x5 : Int32) (len : Nat) : ∀ (d j m n : Nat) (τ : fv_S), len - j = d → j ≤ len → len ≤ 40 → n + d + 1 ≤ 9000 → d + 1 ≤ m → fv_gi τ 66 = Int32.ofNat len →
    ∃ τ', zX8_source_84 N k33 m x1 x2 (Int32.ofNat n) x4 x5 (Int32.ofNat j) τ = k33 x1 x2 (Int32.ofNat (n + d + 1)) x4 (x5 + 1) τ' ∧ τ'.1 = τ.1 ∧ (∀ k, k ≠ 22 → fv_gw τ' k = fv_gw τ k) ∧ τ'.2.1 = τ.2.1 ∧ fv_n τ' = fv_n τ ∧ ∀ i, fv_gw τ' 22 i = if i < n then fv_gw τ 22 i else if i < n + d then fv_gw τ 20 (j + (i - n)) else if i = n + d then 10 else fv_gw τ 22 i := by
  intro d
  induction d with
  | zero =>
    intro j m n τ e hj hl hn hm h1
    obtain ⟨m, rfl⟩ : ∃ k, m = k + 1 := ⟨m - 1, by omega⟩
    obtain ⟨i1, i2⟩ := p_inN n 9000 (by omega) (by omega)
    refine ⟨fv_sa τ 22 (Int32.ofNat n) 10, ?_, rfl, fun k hk => if_neg hk, rfl, rfl, ?_⟩
    · show zX8_source_84_b _ _ _ _ _ _ _ _ _ _ = _
      unfold zX8_source_84_b
      rw [h1, if_pos ((p_leN len j (by omega) (by omega)).2 (by omega)), if_pos i1, p_sucN]
    · intro i
      show upd (fv_gw τ 22) (Int32.ofNat n).toNatClampNeg 10 i = _
      unfold upd; rw [i2]
      by_cases c : i = n
      · subst c; rw [if_pos rfl, if_neg (by omega), if_neg (by omega), if_pos (by omega)]
      · rw [if_neg c, if_neg (show ¬ i = n + 0 by omega)]
        by_cases c2 : i < n
        · rw [if_pos c2]
        · rw [if_neg c2, if_neg (by omega)]
  | succ d ih =>
    intro j m n τ e hj hl hn hm h1
    obtain ⟨m, rfl⟩ : ∃ k, m = k + 1 := ⟨m - 1, by omega⟩
    obtain ⟨i1, i2⟩ := p_inN n 9000 (by omega) (by omega)
    obtain ⟨j1, j2⟩ := p_inN j 40 (by omega) (by omega)
    obtain ⟨τ', x, a1, a2, a3, a4, a6⟩ := ih (j + 1) m (n + 1) (fv_sa τ 22 (Int32.ofNat n) (fv_ga τ 20 (Int32.ofNat j))) (by omega) (by omega) hl (by omega) (by omega) h1
    refine ⟨τ', ?_, a1, fun k hk => (a2 k hk).trans (if_neg hk), a3, a4, ?_⟩
    · show zX8_source_84_b _ _ _ _ _ _ _ _ _ _ = _
      unfold zX8_source_84_b
      rw [h1, if_neg (fun c => by have := (p_leN len j (by omega) (by omega)).1 c; omega), if_pos j1, if_pos i1, p_sucN, p_sucN, x]
      rw [show n + 1 + d + 1 = n + (d + 1) + 1 by omega]
    · intro i
      have v : fv_gw (fv_sa τ 22 (Int32.ofNat n) (fv_ga τ 20 (Int32.ofNat j))) 22 i = if i = n then fv_gw τ 20 j else fv_gw τ 22 i := by
        show upd (fv_gw τ 22) (Int32.ofNat n).toNatClampNeg (fv_gw τ 20 (Int32.ofNat j).toNatClampNeg) i = _
        unfold upd; rw [i2, j2]
      rw [a6 i, v]
      by_cases c : i < n
      · rw [if_pos (show i < n + 1 by omega), if_neg (by omega), if_pos c]
      · rw [if_neg c]
        by_cases c2 : i = n
        · subst c2; rw [if_pos (by omega), if_pos rfl, if_pos (by omega)]; congr 1; omega
        · rw [if_neg (by omega), if_neg c2]
          by_cases c3 : i < n + 1 + d
          · rw [if_pos c3, if_pos (by omega)]
            show fv_gw τ 20 (j + 1 + (i - (n + 1))) = _
            congr 1; omega
          · rw [if_neg c3, if_neg (show ¬ i < n + (d + 1) by omega)]
            by_cases c4 : i = n + 1 + d
            · rw [if_pos c4, if_pos (by omega)]
            · rw [if_neg c4, if_neg (by omega)]
theorem m_145 (N n : Nat) (hn : n ≤ 6000) : ∀ (d j m : Nat) (τ : fv_S), n - j = d → j ≤ n → d + 1 ≤ m →
    ∃ τ', zX8_source_145 N m (Int32.ofNat n) (Int32.ofNat j) τ = fv_ri (Int32.ofNat n) (fv_si τ' 1 (Int32.ofNat n)) ∧ τ'.1 = τ.1 ∧ (∀ k, k ≠ 1 → fv_gw τ' k = fv_gw τ k) ∧ τ'.2.1 = τ.2.1 ∧ fv_n τ' = fv_n τ ∧ (∀ i, i < j → fv_gw τ' 1 i = fv_gw τ 1 i) ∧ ∀ i, j ≤ i → i < n → fv_gw τ' 1 i = fv_gw τ 22 i := by
  intro d
  induction d with
  | zero =>
    intro j m τ e hj hm
    obtain ⟨m, rfl⟩ : ∃ k, m = k + 1 := ⟨m - 1, by omega⟩
    refine ⟨τ, ?_, rfl, fun _ _ => rfl, rfl, rfl, fun _ _ => rfl, fun i h1 h2 => absurd h2 (by omega)⟩
    show zX8_source_145_b _ _ _ _ _ = _
    unfold zX8_source_145_b
    rw [if_pos ((p_leN n j (by omega) (by omega)).2 (by omega))]
  | succ d ih =>
    intro j m τ e hj hm
    obtain ⟨m, rfl⟩ : ∃ k, m = k + 1 := ⟨m - 1, by omega⟩
    obtain ⟨i1, i2⟩ := p_inN j 9000 (by omega) (by omega)
    obtain ⟨j1, _⟩ := p_inN j 6000 (by omega) (by omega)
    obtain ⟨τ', x, a1, a2, a3, a4, a5, a6⟩ := ih (j + 1) m (fv_sa τ 1 (Int32.ofNat j) (fv_ga τ 22 (Int32.ofNat j))) (by omega) (by omega) (by omega)
    have v : ∀ i, fv_gw (fv_sa τ 1 (Int32.ofNat j) (fv_ga τ 22 (Int32.ofNat j))) 1 i = if i = j then fv_gw τ 22 j else fv_gw τ 1 i := by
      intro i
      show upd (fv_gw τ 1) (Int32.ofNat j).toNatClampNeg (fv_gw τ 22 (Int32.ofNat j).toNatClampNeg) i = _
      unfold upd; rw [i2]
    refine ⟨τ', ?_, a1, fun k hk => (a2 k hk).trans (if_neg hk), a3, a4, ?_, ?_⟩
    · show zX8_source_145_b _ _ _ _ _ = _
      unfold zX8_source_145_b
      rw [if_neg (fun c => by have := (p_leN n j (by omega) (by omega)).1 c; omega), if_pos i1, if_pos j1, p_sucN, x]
    · intro i hi; rw [a5 i (by omega), v i, if_neg (by omega)]
    · intro i h1 h2
      by_cases c : i = j
      · subst c; rw [a5 i (by omega), v i, if_pos rfl]
      · rw [a6 i (by omega) h2]; rfl
/-- what the loop keeps of the states at its start, and how far both drafts agree -/
def pQx (σ0 σ : fv_S) : Prop := (∀ k, k ≠ 14 → k ≠ 4097 → fv_gi σ k = fv_gi σ0 k) ∧ (∀ k, k ≠ 45 → k ≠ 33 → fv_gw σ k = fv_gw σ0 k) ∧ σ.2.1 = σ0.2.1 ∧ fv_n σ = fv_n σ0 ∧ (∀ i, p_se (fv_gw σ 33 i) = fv_gw σ 33 i) ∧ ∀ i, p_se (fv_gw σ 45 i) = fv_gw σ 45 i
def pQm (τ0 τ : fv_S) : Prop := (∀ k, k ≠ 66 → (k < 59 ∨ 64 < k) → fv_gi τ k = fv_gi τ0 k) ∧ (∀ k, k ≠ 20 → k ≠ 22 → fv_gw τ k = fv_gw τ0 k) ∧ τ.2.1 = τ0.2.1 ∧ fv_n τ = fv_n τ0
def pQ2 (n : Nat) (σ τ : fv_S) : Prop := fv_gi σ 14 = Int32.ofNat n ∧ ∀ i, i < n → fv_gw σ 45 i = fv_gw τ 22 i ∧ p_a7 (fv_gw τ 22 i)
theorem pQ_I {σ0 τ0 σ τ σ' τ' : fv_S} {n : Nat} (h : pI σ0 τ0) (hx : pQx σ0 σ) (hm : pQm τ0 τ) (xi : ∀ k, k ≠ 1665 → fv_gi σ' k = fv_gi σ k) (xw : ∀ k, k ≠ 14 → fv_gw σ' k = fv_gw σ k) (xl : σ'.2.1 = σ.2.1) (mi : ∀ k, k ≠ 1 → fv_gi τ' k = fv_gi τ k) (mw : ∀ k, k ≠ 1 → fv_gw τ' k = fv_gw τ k) (ml : τ'.2.1 = τ.2.1)
    (hs : pSrc σ' τ') (hb : ∀ i, p_se (fv_gw σ' 14 i) = fv_gw σ' 14 i) : pI σ' τ' := by
  have xi' : ∀ k, k ≠ 14 → k ≠ 4097 → k ≠ 1665 → fv_gi σ' k = fv_gi σ0 k := fun k h1 h2 h3 => (xi k h3).trans (hx.1 k h1 h2)
  have xw' : ∀ k, k ≠ 45 → k ≠ 33 → k ≠ 14 → fv_gw σ' k = fv_gw σ0 k := fun k h1 h2 h3 => (xw k h3).trans (hx.2.1 k h1 h2)
  have mi' : ∀ k, k ≠ 66 → (k < 59 ∨ 64 < k) → k ≠ 1 → fv_gi τ' k = fv_gi τ0 k := fun k h1 h2 h3 => (mi k h3).trans (hm.1 k h1 h2)
  have mw' : ∀ k, k ≠ 20 → k ≠ 22 → k ≠ 1 → fv_gw τ' k = fv_gw τ0 k := fun k h1 h2 h3 => (mw k h3).trans (hm.2.1 k h1 h2)
  refine pI_gen h (fun k hk => xi' k (by omega) (by omega) (by omega)) (fun k hk => xw' k (by omega) (by omega) (by omega)) ?_ (fun k hk => mi' k (by omega) (by omega) (by omega)) (fun k hk => mw' k (by omega) (by omega) (by omega)) ?_ hs ?_ ?_
  · show σ'.2.1 4366 = _; rw [xl, hx.2.2.1]
  · show τ'.2.1 86 = _; rw [ml, hm.2.2.1]
  · unfold pWri; rw [xi' 3841 (by omega) (by omega) (by omega), mi' 68 (by omega) (by omega) (by omega), xw' 31 (by omega) (by omega) (by omega), mw' 21 (by omega) (by omega) (by omega)]; exact h.2.2.2.2.2.1
  · intro k hk i
    by_cases c : k = 14
    · subst c; exact hb i
    · rw [xw k c]
      by_cases c2 : k = 45
      · subst c2; exact hx.2.2.2.2.2 i
      · by_cases c3 : k = 33
        · subst c3; exact hx.2.2.2.2.1 i
        · rw [hx.2.1 k c2 c3]; exact h.2.2.2.2.2.2 k hk i
/-- one line behind both drafts -/
theorem pQ_ln {σ0 τ0 σ τ : fv_S} {t : List Nat} {n : Nat} (N : Nat) (hN : 100 ≤ N) (hx : pQx σ0 σ) (hm : pQm τ0 τ) (hq : pQ2 n σ τ) (wy : pWy σ t) (wm : pWm τ t) (ht : t.length ≤ 18) (hn : n ≤ 5700) :
    ∃ σ', zX0_draftLine N σ = fv_rv σ' ∧ ∀ k33 x1 x2 x4 x5, ∃ τ', zX8_source_84 N k33 N x1 x2 (Int32.ofNat n) x4 x5 0 τ = k33 x1 x2 (Int32.ofNat (n + t.length + 1)) x4 (x5 + 1) τ' ∧ pQx σ0 σ' ∧ pQm τ0 τ' ∧ pQ2 (n + t.length + 1) σ' τ' := by
  obtain ⟨σ', x, a1, a2, a3, a4, a5, a6⟩ := x_dl N t.length t.length n 0 N σ (by omega) (by omega) (by omega) (by omega) (by omega) wy.2.1 hq.1 hx.2.2.2.2.1
  refine ⟨σ', x, fun k33 x1 x2 x4 x5 => ?_⟩
  obtain ⟨τ', y, b1, b2, b3, b4, b6⟩ := m_84 N k33 x1 x2 x4 x5 t.length t.length 0 N n τ (by omega) (by omega) (by omega) (by omega) (by omega) wm.2.1
  refine ⟨τ', y, ⟨fun k h1 h2 => (a1 k h1).trans (hx.1 k h1 h2), fun k h1 h2 => (a2 k h1).trans (hx.2.1 k h1 h2), a3.trans hx.2.2.1, a4.trans hx.2.2.2.1, ?_, ?_⟩, ⟨fun k h1 h2 => ?_, fun k h1 h2 => (b2 k h2).trans (hm.2.1 k h1 h2), b3.trans hm.2.2.1, b4.trans hm.2.2.2⟩, a5, ?_⟩
  · rw [a2 33 (by omega)]; exact hx.2.2.2.2.1
  · intro i
    rw [a6 i]
    split
    · exact hx.2.2.2.2.2 i
    · split
      · exact hx.2.2.2.2.1 _
      · split
        · rfl
        · exact hx.2.2.2.2.2 i
  · show τ'.1 k = _; rw [b1]; exact hm.1 k h1 h2
  · intro i hi
    rw [a6 i, b6 i]
    by_cases c : i < n
    · rw [if_pos c, if_pos c]; exact hq.2 i c
    · rw [if_neg c, if_neg c]
      by_cases c2 : i < n + t.length
      · rw [if_pos c2, if_pos c2]
        have il : 0 + (i - n) < t.length := by omega
        rw [wy.2.2 _ il, wm.2.2 _ il]
        exact ⟨rfl, _, wm.1.2 _ (List.getElem_mem il), rfl⟩
      · rw [if_neg c2, if_neg c2, if_pos (by omega), if_pos (by omega)]
        exact ⟨rfl, 10, by omega, rfl⟩
theorem d_srcl {σ0 τ0 : fv_S} (h : pI σ0 τ0) (N : Nat) (hN : 7000 ≤ N) (x1 : Int32) (cnt : Nat) (hc : cnt ≤ 300) : ∀ (d k m m' n : Nat) (x3 : Int32) (σ τ : fv_S), cnt - k = d → k ≤ cnt → d + 1 ≤ m → d + 1 ≤ m' → n ≤ 19 * (k + 1) → pw x3 → pQx σ0 σ → pQm τ0 τ → pQ2 n σ τ →
    ∃ w σ' τ', zX0_source_66 N m (Int32.ofNat cnt) x3 (Int32.ofNat k) σ = fv_ri w σ' ∧ zX8_source_33 N m' x1 (Int32.ofNat cnt) (Int32.ofNat n) x3 (Int32.ofNat k) τ = fv_ri w τ' ∧ pI σ' τ' ∧ fv_n σ' = fv_n σ0 ∧ fv_n τ' = fv_n τ0 := by
  intro d
  induction d with
  | zero =>
    intro k m m' n x3 σ τ e hk hm hm' hn wx hx hy hq
    obtain ⟨m, rfl⟩ : ∃ k, m = k + 1 := ⟨m - 1, by omega⟩
    obtain ⟨m', rfl⟩ : ∃ k, m' = k + 1 := ⟨m' - 1, by omega⟩
    have c1 := (p_leN cnt k (by omega) (by omega)).2 (by omega)
    have c2 : Int32.ofNat n ≤ 6000 := (p_leN n 6000 (by omega) (by omega)).2 (by omega)
    have n0 := (p_inN n 6001 (by omega) (by omega)).2
    obtain ⟨τ', y, b1, b2, b3, b4, _, b6⟩ := m_145 N n (by omega) n 0 N τ (by omega) (by omega) (by omega)
    refine ⟨Int32.ofNat n, fv_si (fv_sw σ 14 (va_cpy (fv_gw σ 45) (fv_gw σ 14) 0 0 n)) 1665 (Int32.ofNat n), fv_si τ' 1 (Int32.ofNat n), ?_, ?_, ?_, ?_, ?_⟩
    · show zX0_source_66_b _ _ _ _ _ _ = _
      unfold zX0_source_66_b
      rw [hq.1, if_pos c1, if_pos c2]
      unfold fv_jcb
      rw [if_pos, n0]
      · rw [fv_bv_rv]
        show fv_ri (fv_gi σ 14) (fv_si _ 1665 (fv_gi σ 14)) = _
        rw [hq.1]; rfl
      · refine ⟨⟨by decide, by decide, ?_, ?_, ?_⟩, ?_⟩
        · rw [p_lt, p_ofn n (by omega)]; show ¬ (n : Int) < 0; omega
        · rw [n0]; show 0 + n ≤ 6100; omega
        · rw [n0]; show 0 + n ≤ 6000; omega
        · intro i hi
          exact p_fit (hx.2.2.2.2.2 _)
    · show zX8_source_33_b _ _ _ _ _ _ _ _ = _
      unfold zX8_source_33_b
      rw [if_pos c1, if_pos c2]
      exact y
    · refine pQ_I (n := n) h hx hy (fun k hk => if_neg hk) (fun k hk => if_neg hk) rfl (fun k hk => (if_neg hk).trans (by show τ'.1 k = _; rw [b1])) (fun k hk => b2 k hk) b3 ⟨n, by omega, rfl, rfl, fun i hi => ?_⟩ ?_
      · have v1 : fv_gw (fv_si τ' 1 (Int32.ofNat n)) 1 i = fv_gw τ 22 i := b6 i (by omega) hi
        have v2 : fv_gw (fv_si (fv_sw σ 14 (va_cpy (fv_gw σ 45) (fv_gw σ 14) 0 0 n)) 1665 (Int32.ofNat n)) 14 i = fv_gw σ 45 i := sb_cpy0 hi
        rw [v1, v2, (hq.2 i hi).1]
        have a := p_a7b (hq.2 i hi).2
        exact ⟨a.1, a.2.symm⟩
      · intro i
        show p_se (va_cpy (fv_gw σ 45) (fv_gw σ 14) 0 0 n i) = va_cpy (fv_gw σ 45) (fv_gw σ 14) 0 0 n i
        by_cases c : i < n
        · rw [sb_cpy0 c]; exact hx.2.2.2.2.2 i
        · rw [pk_cpy_out (Or.inr (by omega)), hx.2.1 14 (by omega) (by omega)]; exact h.2.2.2.2.2.2 14 (Or.inl rfl) i
    · exact hx.2.2.2.1
    · exact b4.trans hy.2.2.2
  | succ d ih =>
    intro k m m' n x3 σ τ e hk hm hm' hn wx hx hy hq
    obtain ⟨m, rfl⟩ : ∃ k, m = k + 1 := ⟨m - 1, by omega⟩
    obtain ⟨m', rfl⟩ : ∃ k, m' = k + 1 := ⟨m' - 1, by omega⟩
    obtain ⟨M, rfl⟩ : ∃ k, N = k + 20 := ⟨N - 20, by omega⟩
    have c1 : ¬ Int32.ofNat cnt ≤ Int32.ofNat k := fun c => by have := (p_leN cnt k (by omega) (by omega)).1 c; omega
    have c2 : (0 : Int32) ≤ Int32.ofNat k := (p_leN 0 k (by omega) (by omega)).2 (by omega)
    have hM : pMQ (fv_si σ 4097 0) (fv_si τ 66 0) := pMQ_c h.1 (fun k h1 h2 => hx.2.1 k (by omega) (by omega)) (fun k h1 h2 => (if_neg (show k ≠ 4097 by omega)).trans (hx.1 k (by omega) (by omega))) (by show σ.2.1 4366 = _; rw [hx.2.2.1]) (fun k hk => hy.2.1 k (by omega) (by omega)) (fun k hk => (if_neg (show k ≠ 66 by omega)).trans (hy.1 k (by omega) (by omega))) (by show τ.2.1 86 = _; rw [hy.2.2.1])
    have hF : pFm (fv_si σ 4097 0) := pFm_c h.2.1 (hx.1 391 (by omega) (by omega)) (fun k h1 h2 => hx.2.1 k (by omega) (by omega))
    obtain ⟨len, σ1, τ1, τ2, t, x, y, sx, wy, sf, sm, wm, tl⟩ := c_wry M hM hF hx.2.2.2.2.1 wx
    have hx1 : pQx σ0 σ1 := by
      refine ⟨fun k h1 h2 => (sx.1 k h2).trans ((if_neg h2).trans (hx.1 k h1 h2)), fun k h1 h2 => (sx.2.1 k h2).trans (hx.2.1 k h1 h2), sx.2.2.1.trans hx.2.2.1, sx.2.2.2.1.trans hx.2.2.2.1, sx.2.2.2.2, ?_⟩
      rw [sx.2.1 45 (by omega)]; exact hx.2.2.2.2.2
    have e2 : τ1.2 = τ.2 := sf.2
    have hy1 : pQm τ0 τ2 := by
      refine ⟨fun k h1 h2 => ?_, fun k h1 h2 => ?_, ?_, ?_⟩
      · rw [sm.1 k h1, show fv_gi τ1 k = fv_gi (fv_si τ 66 0) k from sf.1 k h2]; exact (if_neg h1).trans (hy.1 k h1 h2)
      · rw [sm.2.1 k h1]; show τ1.2.2.1 k = _; rw [e2]; exact hy.2.1 k h1 h2
      · rw [sm.2.2.1, e2]; exact hy.2.2.1
      · rw [sm.2.2.2]; show τ1.2.2.2 = _; rw [e2]; exact hy.2.2.2
    have hq1 : pQ2 n σ1 τ2 := by
      refine ⟨(sx.1 14 (by omega)).trans hq.1, ?_⟩
      rw [sx.2.1 45 (by omega), sm.2.1 22 (by omega)]
      show ∀ i, i < n → fv_gw σ 45 i = τ1.2.2.1 22 i ∧ p_a7 (τ1.2.2.1 22 i)
      rw [e2]; exact hq.2
    obtain ⟨σ2, x2, y2⟩ := pQ_ln (M + 20) (by omega) hx1 hy1 hq1 wy wm tl (by omega)
    obtain ⟨τ3, y3, hx3, hy3, hq3⟩ := y2 (zX8_source_33 (M + 20) m') x1 (Int32.ofNat cnt) ((x3 + len) &&& 65535) (Int32.ofNat k)
    obtain ⟨w, σ', τ', r1, r2, r3⟩ := ih (k + 1) m m' (n + t.length + 1) ((x3 + len) &&& 65535) σ2 τ3 (by omega) (by omega) (by omega) (by omega) (by omega) (pw_a _) hx3 hy3 hq3
    refine ⟨w, σ', τ', ?_, ?_, r3⟩
    · show zX0_source_66_b _ _ _ _ _ _ = _
      unfold zX0_source_66_b
      rw [if_neg c1, x, fv_bi_ri, x2, fv_bv_rv, p_sucN]; exact r1
    · show zX8_source_33_b _ _ _ _ _ _ _ _ = _
      unfold zX8_source_33_b
      rw [if_neg c1, if_pos c2, show x3 &&& 65535 = x3 from wx, y, fv_bi_ri, y3, p_sucN]; exact r2
theorem bv_rv {o : Option fv_O} {k : fv_S → Option fv_O} {σ' : fv_S} (h : fv_bv o k fv_no = fv_rv σ') : ∃ s, o = fv_rv s ∧ k s = fv_rv σ' := by
  unfold fv_bv at h
  split at h
  · exact ⟨_, rfl, h⟩
  · exact absurd h (by simp [fv_no, fv_rv])
  · exact absurd h (by simp [fv_rv])
theorem d_source {σ τ : fv_S} (h : pI σ τ) (a c : Int32) : ∃ w σ' τ', zX0_source 7000 a c σ = fv_ri w σ' ∧ zX8_source 7000 a c τ = fv_ri w τ' ∧ pI σ' τ' ∧ fv_n σ' = fv_n σ ∧ fv_n τ' = fv_n τ := by
  unfold zX0_source zX8_source
  rw [x_isIn a (lo := 0) (hi := 65535) rfl rfl, fv_bi_ri]
  by_cases c0 : 0 ≤ a.toInt
  · rw [if_neg (show ¬ a < 0 by rw [p_lt]; show ¬ a.toInt < 0; omega)]
    by_cases c1 : a.toInt ≤ 65535
    · rw [if_pos (show p_R 0 65535 a from ⟨c0, c1⟩), if_neg (by decide), if_neg (show ¬ (65535 : Int32) < a by rw [p_lt]; show ¬ (65535 : Int) < a.toInt; omega)]
      rw [x_isIn c (lo := 1) (hi := 300) rfl rfl, fv_bi_ri]
      by_cases c2 : 1 ≤ c.toInt
      · rw [if_neg (show ¬ c < 1 by rw [p_lt]; show ¬ c.toInt < 1; omega)]
        by_cases c3 : c.toInt ≤ 300
        · rw [if_pos (show p_R 1 300 c from ⟨c2, c3⟩), if_pos (by decide), if_pos (show c ≤ 300 by rw [p_le]; exact c3)]
          obtain ⟨cnt, hcnt, rfl⟩ := p_rng 301 (by omega) (by omega) (by omega : c.toInt < 301)
          obtain ⟨v, hv, rfl⟩ := p_rng 65536 (by omega) c0 (by omega)
          have hB : ∀ i, p_se (fv_gw (fv_si (fv_si σ 14 0) 4097 0) 33 i) = fv_gw (fv_si (fv_si σ 14 0) 4097 0) 33 i := h.2.2.2.2.2.2 33 (by unfold p_bn; omega)
          have tY : pTy (fv_si (fv_si σ 14 0) 4097 0) (fun s => fv_bv (zX6_putText_32 7000 100 s) (fun s1 => zX6_putNumber_32 7000 (Int32.ofNat v) s1) fv_no) (p_nm 100 ++ p_dN v) :=
            ty_b (ty_tx _ 7000 100 (by omega) (fv_sl0 100) 0 7000 (by omega) (by omega) (by have := k_len 100 (by omega); omega)) (ty_num _ 7000 v (by omega) hv)
          have tM : pTm (fv_si τ 66 0) (fun s => fv_bv (zX8_say 7000 1330792224 s) (fun s1 => zX8_number 7000 (Int32.ofNat v) s1) fv_no) (p_nm 100 ++ p_dN v) := by
            rw [show p_nm 100 = p_say 1330792224 by decide +kernel]
            exact tm_b (tm_say _ 6990 1330792224 (by decide +kernel)) (tm_num _ 7000 v (by omega) hv)
          have tl : (p_nm 100 ++ p_dN v).length ≤ 18 := by
            rw [List.length_append, show (p_nm 100).length = 4 by decide +kernel]
            have := (p_dNl v).1; omega
          obtain ⟨σ1, x1, sx, wy⟩ := tY _ [] (pSy_r _ hB) ⟨by simp, rfl, fun i hi => absurd hi (by simp)⟩ (by rw [List.length_nil]; omega)
          obtain ⟨τ1, y1, sm, wm⟩ := tM _ [] (pSm_r _) ⟨by simp, rfl, fun i hi => absurd hi (by simp)⟩ (by rw [List.length_nil]; omega)
          rw [List.nil_append] at wy wm
          generalize hT : p_nm 100 ++ p_dN v = t at *
          have hx : pQx σ σ1 := by
            refine ⟨fun k h1 h2 => (sx.1 k h2).trans ((if_neg h2).trans (if_neg h1)), fun k h1 h2 => sx.2.1 k h2, sx.2.2.1, sx.2.2.2.1, sx.2.2.2.2, ?_⟩
            rw [sx.2.1 45 (by omega)]; exact h.2.2.2.2.2.2 45 (by unfold p_bn; omega)
          have hy : pQm τ τ1 := ⟨fun k h1 h2 => (sm.1 k h1).trans (if_neg h1), fun k h1 h2 => sm.2.1 k h1, sm.2.2.1, sm.2.2.2⟩
          have hq : pQ2 0 σ1 τ1 := ⟨sx.1 14 (by omega), fun i hi => absurd hi (by omega)⟩
          obtain ⟨σ2, x2, y2⟩ := pQ_ln 7000 (by omega) hx hy hq wy wm tl (by omega)
          obtain ⟨τ2, y3, hx2, hy2, hq2⟩ := y2 (zX8_source_33 7000 6999) (Int32.ofNat v) (Int32.ofNat cnt) (Int32.ofNat v) (-1)
          obtain ⟨w, σ', τ', r1, r2, r3⟩ := d_srcl h 7000 (by omega) (Int32.ofNat v) cnt (by omega) cnt 0 7000 6999 (0 + t.length + 1) (Int32.ofNat v) σ2 τ2 (by omega) (by omega) (by omega) (by omega) (by omega) (pw_ofN v hv) hx2 hy2 hq2
          refine ⟨w, σ', τ', ?_, ?_, r3⟩
          · have x1' : fv_bv (zX6_putText_32 7000 100 (fv_si (fv_si σ 14 0) 4097 0)) (fun s1 => zX6_putNumber_32 7000 (Int32.ofNat v) s1) fv_no = fv_rv σ1 := x1
            revert x1'
            generalize zX6_putText_32 7000 100 (fv_si (fv_si σ 14 0) 4097 0) = o
            intro x1'
            obtain ⟨s1, o1, o2⟩ := bv_rv x1'
            rw [o1, fv_bv_rv, o2, fv_bv_rv, x2, fv_bv_rv]; exact r1
          · show zX8_source_33_b _ _ _ _ _ _ _ _ = _
            unfold zX8_source_33_b
            rw [if_neg (show ¬ Int32.ofNat cnt ≤ -1 by rw [p_le, p_ofn cnt (by omega)]; show ¬ (cnt : Int) ≤ -1; omega), if_neg (by decide)]
            have y1' : fv_bv (zX8_say 7000 1330792224 (fv_si τ 66 0)) (fun s1 => zX8_number 7000 (Int32.ofNat v) s1) fv_no = fv_rv τ1 := y1
            obtain ⟨s1, o1, o2⟩ := bv_rv y1'
            rw [o1, fv_bv_rv, o2, fv_bv_rv]
            exact y3.trans r2
        · rw [if_neg (show ¬ p_R 1 300 c from fun e => c3 e.2), if_neg (by decide), if_neg (show ¬ c ≤ 300 by rw [p_le]; exact c3)]
          exact ⟨-2, _, _, rfl, rfl, h, rfl, rfl⟩
      · rw [if_neg (show ¬ p_R 1 300 c from fun e => c2 e.1), if_neg (by decide), if_pos (show c < 1 by rw [p_lt]; show c.toInt < 1; omega)]
        exact ⟨-2, _, _, rfl, rfl, h, rfl, rfl⟩
    · rw [if_neg (show ¬ p_R 0 65535 a from fun e => c1 e.2), if_pos rfl, if_pos (show (65535 : Int32) < a by rw [p_lt]; show (65535 : Int) < a.toInt; omega)]
      exact ⟨-2, _, _, rfl, rfl, h, rfl, rfl⟩
  · rw [if_neg (show ¬ p_R 0 65535 a from fun e => c0 e.1), if_pos rfl, if_pos (show a < 0 by rw [p_lt]; show a.toInt < 0; omega)]
    exact ⟨-2, _, _, rfl, rfl, h, rfl, rfl⟩
