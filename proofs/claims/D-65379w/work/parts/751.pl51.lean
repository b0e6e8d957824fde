set_option maxRecDepth 100000
set_option maxHeartbeats 4000000
/-! The plain law: a label is added; the model's labels. -/
theorem s_wk (σ : fv_S) (k : Nat) (f : Nat → Int32) : fv_gw (fv_sw σ k f) k = f := if_pos rfl
theorem s_wn (σ : fv_S) (k a : Nat) (f : Nat → Int32) (h : a ≠ k) : fv_gw (fv_sw σ k f) a = fv_gw σ a := if_neg h
theorem s_ak (σ : fv_S) (k : Nat) (i v : Int32) : fv_gw (fv_sa σ k i v) k i.toNatClampNeg = v := by
  unfold fv_sa; rw [s_wk]; exact if_pos rfl
theorem s_ai (σ : fv_S) (k : Nat) (i v : Int32) (j : Nat) (h : j ≠ i.toNatClampNeg) : fv_gw (fv_sa σ k i v) k j = fv_gw σ k j := by
  unfold fv_sa; rw [s_wk]; exact if_neg h
theorem s_an (σ : fv_S) (k a : Nat) (i v : Int32) (h : a ≠ k) : fv_gw (fv_sa σ k i v) a = fv_gw σ a := by
  unfold fv_sa; exact s_wn _ _ _ _ h
theorem p_clN (k : Nat) (h : k < 65536) : (Int32.ofNat k).toNatClampNeg = k := (p_inN k 65536 h (by omega)).2
/-- names stay octets -/
def xB17 (σ σ' : fv_S) : Prop := (∀ i, p_se (fv_gw σ 17 i) = fv_gw σ 17 i) → ∀ i, p_se (fv_gw σ' 17 i) = fv_gw σ' 17 i
theorem xB17_e {σ σ' : fv_S} (h : fv_gw σ' 17 = fv_gw σ 17) : xB17 σ σ' := fun b i => by rw [h]; exact b i
theorem xB17_t {a b c : fv_S} (h : xB17 a b) (g : xB17 b c) : xB17 a c := fun x => g (h x)
/-- what a label that is added leaves alone -/
def xFl (σ σ' : fv_S) : Prop := (∀ j, j ≠ 2051 → fv_gi σ' j = fv_gi σ j) ∧ (σ'.2.1 = σ.2.1 ∧ xB17 σ σ') ∧ (∀ a, a ≠ 17 → a ≠ 18 → a ≠ 19 → fv_gw σ' a = fv_gw σ a) ∧ fv_n σ' = fv_n σ
theorem x_addL {B : Nat → Nat} {n q k : Nat} (hS : qS B n) (hk : q + k ≤ n) (hk2 : k ≤ 12) {σ : fv_S} (h : qX B n σ) {L : List (List Nat × Int32)} (hL : xL L σ) (hl : L.length < 200) (v : Int32) : ∃ σ', zX5_add (Int32.ofNat q) (Int32.ofNat k) v σ = fv_rv σ' ∧ xL (L ++ [(qnm B q k, v)]) σ' ∧ xFl σ σ' := by
  have hn := hS.1
  obtain ⟨i1, i2⟩ := p_inN L.length 200 (by omega) (by omega)
  have q2 := p_clN q (by omega)
  have k2 := p_clN k (by omega)
  have l2 := p_clN (12 * L.length) (by omega)
  have nn : ∀ a, a < 65536 → ¬ Int32.ofNat a < 0 := fun a ha e => by have := (p_ltN a 0 (by omega) (by omega)).1 e; omega
  have hf : fv_jfit (fv_gw σ 15) (Int32.ofNat q) (Int32.ofNat k) := by
    intro i hi
    rw [k2] at hi
    rw [q2, (h.2 (q + i) (by omega)).2]
    apply p_fit
    have : ∀ b, b < 256 → p_se (p_se (Int32.ofNat b)) = p_se (Int32.ofNat b) := by decide +kernel
    exact this _ (qcap_lt _ (hS.2.1 _))
  unfold zX5_add fv_jcb
  rw [hL.1, show (12 : Int32) * Int32.ofNat L.length = Int32.ofNat (12 * L.length) by rw [Int32.ofNat_mul]; rfl, if_pos ⟨⟨nn q (by omega), nn _ (by omega), nn k (by omega), by rw [q2, k2]; omega, by rw [l2, k2]; omega⟩, hf⟩, fv_bv_rv, q2, k2, l2]
  generalize hg : va_cpy (fv_gw σ 15) (fv_gw σ 17) q (12 * L.length) k = g
  have gv : ∀ i, g i = if 12 * L.length ≤ i ∧ i < 12 * L.length + k then fv_gw σ 15 (q + (i - 12 * L.length)) else fv_gw σ 17 i := fun i => by rw [← hg]; rfl
  rw [show fv_gi (fv_sw σ 17 g) 2051 = Int32.ofNat L.length from hL.1, if_pos i1, if_pos i1]
  have b17 : xB17 σ (fv_si (fv_sa (fv_sa (fv_sw σ 17 g) 18 (Int32.ofNat L.length) (Int32.ofNat k)) 19 (Int32.ofNat L.length) v) 2051 (Int32.ofNat L.length + 1)) := by
    intro hb j
    show p_se (fv_gw (fv_sa (fv_sa (fv_sw σ 17 g) 18 (Int32.ofNat L.length) (Int32.ofNat k)) 19 (Int32.ofNat L.length) v) 17 j) = fv_gw (fv_sa (fv_sa (fv_sw σ 17 g) 18 (Int32.ofNat L.length) (Int32.ofNat k)) 19 (Int32.ofNat L.length) v) 17 j
    rw [s_an _ _ _ _ _ (by omega), s_an _ _ _ _ _ (by omega), s_wk, gv]
    split
    · rename_i hc
      rw [(h.2 (q + (j - 12 * L.length)) (by omega)).2]
      have : ∀ b, b < 256 → p_se (p_se (Int32.ofNat b)) = p_se (Int32.ofNat b) := by decide +kernel
      exact this _ (qcap_lt _ (hS.2.1 _))
    · exact hb j
  refine ⟨_, rfl, ⟨?_, ?_, ?_⟩, ?_, ⟨rfl, b17⟩, ?_, rfl⟩
  · show Int32.ofNat L.length + 1 = _
    rw [p_sucN, List.length_append]; rfl
  · rw [List.length_append]; show L.length + 1 ≤ 200; omega
  · intro i e he
    have a18 : ∀ j, fv_gw (fv_si (fv_sa (fv_sa (fv_sw σ 17 g) 18 (Int32.ofNat L.length) (Int32.ofNat k)) 19 (Int32.ofNat L.length) v) 2051 (Int32.ofNat L.length + 1)) 18 j = if j = L.length then Int32.ofNat k else fv_gw σ 18 j := by
      intro j
      show fv_gw (fv_sa (fv_sa (fv_sw σ 17 g) 18 (Int32.ofNat L.length) (Int32.ofNat k)) 19 (Int32.ofNat L.length) v) 18 j = _
      rw [s_an _ _ _ _ _ (by omega)]
      by_cases c : j = L.length
      · rw [if_pos c, c]
        have := s_ak (fv_sw σ 17 g) 18 (Int32.ofNat L.length) (Int32.ofNat k)
        rw [i2] at this; exact this
      · rw [if_neg c, s_ai _ _ _ _ _ (by rw [i2]; exact c), s_wn _ _ _ _ (by omega)]
    have a19 : ∀ j, fv_gw (fv_si (fv_sa (fv_sa (fv_sw σ 17 g) 18 (Int32.ofNat L.length) (Int32.ofNat k)) 19 (Int32.ofNat L.length) v) 2051 (Int32.ofNat L.length + 1)) 19 j = if j = L.length then v else fv_gw σ 19 j := by
      intro j
      show fv_gw (fv_sa (fv_sa (fv_sw σ 17 g) 18 (Int32.ofNat L.length) (Int32.ofNat k)) 19 (Int32.ofNat L.length) v) 19 j = _
      by_cases c : j = L.length
      · rw [if_pos c, c]
        have := s_ak (fv_sa (fv_sw σ 17 g) 18 (Int32.ofNat L.length) (Int32.ofNat k)) 19 (Int32.ofNat L.length) v
        rw [i2] at this; exact this
      · rw [if_neg c, s_ai _ _ _ _ _ (by rw [i2]; exact c), s_an _ _ _ _ _ (by omega), s_wn _ _ _ _ (by omega)]
    have a17 : ∀ j, fv_gw (fv_si (fv_sa (fv_sa (fv_sw σ 17 g) 18 (Int32.ofNat L.length) (Int32.ofNat k)) 19 (Int32.ofNat L.length) v) 2051 (Int32.ofNat L.length + 1)) 17 j = g j := by
      intro j
      show fv_gw (fv_sa (fv_sa (fv_sw σ 17 g) 18 (Int32.ofNat L.length) (Int32.ofNat k)) 19 (Int32.ofNat L.length) v) 17 j = _
      rw [s_an _ _ _ _ _ (by omega), s_an _ _ _ _ _ (by omega), s_wk]
    rw [a18, a19]
    by_cases c : i < L.length
    · rw [List.getElem?_append_left c] at he
      obtain ⟨e1, e2, e3, e4⟩ := hL.2.2 i e he
      rw [if_neg (by omega), if_neg (by omega)]
      refine ⟨e1, e2, e3, fun j c2 hc => ?_⟩
      have hj : j < e.1.length := by
        apply Decidable.byContradiction; intro c3; rw [List.getElem?_eq_none (by omega)] at hc; exact absurd hc (by simp)
      rw [a17, gv, if_neg (by omega)]
      exact e4 j c2 hc
    · have ci : i = L.length := by
        apply Decidable.byContradiction; intro c3
        rw [List.getElem?_eq_none (by rw [List.length_append]; show L.length + 1 ≤ i; omega)] at he; exact absurd he (by simp)
      subst ci
      rw [List.getElem?_append_right (Nat.le_refl _), Nat.sub_self] at he
      have he := (Option.some.inj he).symm
      subst he
      rw [if_pos rfl, if_pos rfl]
      refine ⟨by rw [qnm_len]; exact hk2, by rw [qnm_len], rfl, fun j c2 hc => ?_⟩
      have hj : j < k := by
        apply Decidable.byContradiction; intro c3; rw [List.getElem?_eq_none (by rw [qnm_len]; omega)] at hc; exact absurd hc (by simp)
      rw [qnm_get B k q j hj] at hc
      rw [a17, gv, if_pos (by omega), show q + (12 * L.length + j - 12 * L.length) = q + j by omega, (h.2 (q + j) (by omega)).2, ← Option.some.inj hc]
      exact ⟨rfl, qcap_lt _ (hS.2.1 _)⟩
  · intro j hj; exact if_neg hj
  · intro a h17 h18 h19
    show fv_gw (fv_sa (fv_sa (fv_sw σ 17 g) 18 (Int32.ofNat L.length) (Int32.ofNat k)) 19 (Int32.ofNat L.length) v) a = _
    rw [s_an _ _ _ _ _ h19, s_an _ _ _ _ _ h18, s_wn _ _ _ _ h17]
/-- the model's labels -/
def mL (L : List (List Nat × Int32)) (τ : fv_S) : Prop := fv_gi τ 13 = Int32.ofNat L.length ∧ L.length ≤ 200 ∧ ∀ i e, L[i]? = some e → e.1.length ≤ 12 ∧ fv_gw τ 3 i = Int32.ofNat e.1.length ∧ fv_gw τ 4 i = e.2 ∧ ∀ j c, e.1[j]? = some c → fv_gw τ 2 (12 * i + j) = Int32.ofNat c ∧ c < 256
theorem p_subN (a b : Nat) (h : b ≤ a) : Int32.ofNat a - Int32.ofNat b = Int32.ofNat (a - b) := by
  obtain ⟨c, rfl⟩ : ∃ c, a = b + c := ⟨a - b, by omega⟩
  rw [Int32.ofNat_add, Int32.add_comm, Int32.add_sub_cancel, show b + c - b = c by omega]
theorem m_lf {B : Nat → Nat} {n q k : Nat} (hS : qS B n) {N : Nat} (hN : 7000 ≤ N) (hk : q + k ≤ n) {τ : fv_S} (h : qM B n τ) {L : List (List Nat × Int32)} (hL : mL L τ) : zX8_find N (Int32.ofNat q) (Int32.ofNat (q + k)) τ = fv_ri (qxi (qlf (qnm B q k) L) L.length) τ := by
  have hn := hS.1
  have hl := hL.2.1
  have sub : Int32.ofNat (q + k) - Int32.ofNat q = Int32.ofNat k := by rw [p_subN _ _ (by omega), show q + k - q = k by omega]
  have nam : ∀ (kk : Int32 → Int32 → Int32 → fv_S → Option fv_O) (i : Nat) (e : List Nat × Int32), L[i]? = some e → i < L.length → ∀ d j m, k - j = d → j ≤ k → d + 1 ≤ m → e.1.length = k → zX8_find_32 N kk m (Int32.ofNat q) (Int32.ofNat (q + k)) (Int32.ofNat i) 1 (Int32.ofNat j) τ = zX8_find_86 N kk (Int32.ofNat q) (Int32.ofNat (q + k)) (Int32.ofNat i) (q01 (qcd (∀ x c, x < k → j ≤ x → e.1[x]? = some c → c = qcap (B (q + x))))) τ := by
    intro kk i e he hi
    obtain ⟨e1, e2, e3, e4⟩ := hL.2.2 i e he
    intro d
    induction d with
    | zero =>
      intro j m ee hj hm el
      obtain ⟨m, rfl⟩ : ∃ j, m = j + 1 := ⟨m - 1, by omega⟩
      show zX8_find_32_b _ _ _ _ _ _ _ _ _ = _
      unfold zX8_find_32_b
      rw [sub, if_pos ((p_leN k j (by omega) (by omega)).2 (by omega)), qcd_t (fun x c h1 h2 => by omega)]; rfl
    | succ d ih =>
      intro j m ee hj hm el
      obtain ⟨m, rfl⟩ : ∃ j, m = j + 1 := ⟨m - 1, by omega⟩
      obtain ⟨i1, i2⟩ := p_inN (q + j) 6000 (by omega) (by omega)
      obtain ⟨j1, j2⟩ := p_inN (12 * i + j) 2400 (by omega) (by omega)
      have hc : e.1[j]? = some e.1[j] := List.getElem?_eq_getElem (by omega)
      obtain ⟨w1, w2⟩ := e4 j _ hc
      have hv : fv_ga τ 1 (Int32.ofNat (q + j)) = Int32.ofNat (B (q + j)) := by
        show fv_gw τ 1 (Int32.ofNat (q + j)).toNatClampNeg = _; rw [i2, h.2 (q + j) (by omega)]
      have hw : fv_ga τ 2 (Int32.ofNat (12 * i + j)) = Int32.ofNat e.1[j] := by
        show fv_gw τ 2 (Int32.ofNat (12 * i + j)).toNatClampNeg = _; rw [j2, w1]
      show zX8_find_32_b _ _ _ _ _ _ _ _ _ = _
      unfold zX8_find_32_b
      rw [sub, if_neg (show ¬ Int32.ofNat k ≤ Int32.ofNat j from fun e => by have := (p_leN k j (by omega) (by omega)).1 e; omega), if_neg (show ¬ (1 : Int32) = 0 by decide), show (12 : Int32) * Int32.ofNat i + Int32.ofNat j = Int32.ofNat (12 * i + j) by rw [Int32.ofNat_add, Int32.ofNat_mul]; rfl, if_pos j1, ← Int32.ofNat_add, if_pos i1, hv, m_cap _ (hS.2.1 _), fv_bi_ri, hw, p_sucN]
      have eq := p_eqN e.1[j] (qcap (B (q + j))) (by omega) (by have := qcap_lt _ (hS.2.1 (q + j)); omega)
      by_cases c : e.1[j] = qcap (B (q + j))
      · rw [if_neg (not_not_intro (eq.2 c)), ih (j + 1) m (by omega) (by omega) (by omega) el]
        congr 2
        apply qcd_c
        constructor
        · intro hh x c2 h1 h2 h3
          by_cases c3 : x = j
          · subst c3; rw [hc] at h3; rw [← Option.some.inj h3]; exact c
          · exact hh x c2 h1 (by omega) h3
        · intro hh x c2 h1 h2 h3; exact hh x c2 h1 (by omega) h3
      · rw [if_pos (fun e => c (eq.1 e)), qcd_f (fun hh => c (hh j _ (by omega) (by omega) hc))]
        obtain ⟨m, rfl⟩ : ∃ j, m = j + 1 := ⟨m - 1, by omega⟩
        show zX8_find_32_b _ _ _ _ _ _ _ _ _ = _
        unfold zX8_find_32_b
        by_cases c3 : Int32.ofNat (q + k) - Int32.ofNat q ≤ Int32.ofNat (j + 1)
        · rw [if_pos c3]; rfl
        · rw [if_neg c3, if_pos rfl]; rfl
  have lp : ∀ d j m, L.length - j = d → j ≤ L.length → d + 1 ≤ m → zX8_find_2 N m (Int32.ofNat q) (Int32.ofNat (q + k)) (Int32.ofNat j) τ = fv_ri (qxi (j + qlf (qnm B q k) (L.drop j)) L.length) τ := by
    intro d
    induction d with
    | zero =>
      intro j m e hj hm
      obtain ⟨m, rfl⟩ : ∃ j, m = j + 1 := ⟨m - 1, by omega⟩
      have i0 := (p_leN L.length j (by omega) (by omega)).2 (by omega)
      show zX8_find_2_b _ _ _ _ _ _ = _
      unfold zX8_find_2_b
      rw [hL.1, if_pos i0]
      unfold qxi; rw [if_neg (by omega)]
    | succ d ih =>
      intro j m e hj hm
      obtain ⟨m, rfl⟩ : ∃ j, m = j + 1 := ⟨m - 1, by omega⟩
      have i0 : ¬ Int32.ofNat L.length ≤ Int32.ofNat j := fun e => by have := (p_leN L.length j (by omega) (by omega)).1 e; omega
      obtain ⟨i1, i2⟩ := p_inN j 200 (by omega) (by omega)
      have he : L[j]? = some L[j] := List.getElem?_eq_getElem (by omega)
      obtain ⟨e1, e2, e3, e4⟩ := hL.2.2 j _ he
      have ee := qnm_eq B q k L[j].1
      have fin : zX8_find_2 N (m + 1) (Int32.ofNat q) (Int32.ofNat (q + k)) (Int32.ofNat j) τ = zX8_find_86 N (zX8_find_2 N m) (Int32.ofNat q) (Int32.ofNat (q + k)) (Int32.ofNat j) (q01 (decide (L[j].1 = qnm B q k))) τ := by
        show zX8_find_2_b _ _ _ _ _ _ = _
        unfold zX8_find_2_b
        rw [hL.1, if_neg i0, if_pos i1, show fv_ga τ 3 (Int32.ofNat j) = Int32.ofNat L[j].1.length by show fv_gw τ 3 (Int32.ofNat j).toNatClampNeg = _; rw [i2, e2], sub]
        by_cases c : L[j].1.length = k
        · rw [if_neg (show ¬ ¬ Int32.ofNat L[j].1.length = Int32.ofNat k from not_not_intro (by rw [c])), show zX8_find_32 N (zX8_find_2 N m) N (Int32.ofNat q) (Int32.ofNat (q + k)) (Int32.ofNat j) 1 0 τ = _ from nam _ j _ he (by omega) k 0 N (by omega) (by omega) (by omega) c]
          congr 2
          apply qcd_d
          rw [ee]
          exact ⟨fun hh => ⟨c, fun j c2 h1 h2 => hh j c2 h1 (by omega) h2⟩, fun hh x c2 h1 _ h2 => hh.2 x c2 h1 h2⟩
        · rw [if_pos (show ¬ Int32.ofNat L[j].1.length = Int32.ofNat k from fun e => c ((p_eqN _ _ (by omega) (by omega)).1 e)), decide_eq_false (fun hh => c (ee.1 hh).1)]
          obtain ⟨m2, rfl⟩ : ∃ j, N = j + 1 := ⟨N - 1, by omega⟩
          show zX8_find_32_b _ _ _ _ _ _ _ _ _ = _
          unfold zX8_find_32_b
          by_cases c3 : Int32.ofNat (q + k) - Int32.ofNat q ≤ 0
          · rw [if_pos c3]; rfl
          · rw [if_neg c3, if_pos rfl]; rfl
      rw [fin, qlf_drop _ L j _ he]
      unfold zX8_find_86
      by_cases c : L[j].1 = qnm B q k
      · rw [decide_eq_true c, if_neg (show ¬ q01 true = 0 by decide), if_pos c]
        unfold qxi; rw [if_pos (by omega)]; rfl
      · rw [decide_eq_false c, if_pos (show q01 false = 0 by decide), if_neg c, p_sucN, ih (j + 1) m (by omega) (by omega) (by omega), show j + 1 + qlf (qnm B q k) (L.drop (j + 1)) = j + (qlf (qnm B q k) (L.drop (j + 1)) + 1) by omega]
  unfold zX8_find
  have := lp L.length 0 N (by omega) (by omega) (by omega)
  rw [Nat.zero_add, List.drop_zero] at this
  exact this
/-- what a name that is added leaves alone -/
def mFl (τ τ' : fv_S) : Prop := (∀ j, j ≠ 13 → fv_gi τ' j = fv_gi τ j) ∧ τ'.2.1 = τ.2.1 ∧ (∀ a, a ≠ 2 → a ≠ 3 → a ≠ 4 → fv_gw τ' a = fv_gw τ a) ∧ fv_n τ' = fv_n τ
theorem m_addN {B : Nat → Nat} {n q k : Nat} (hS : qS B n) {N : Nat} (hN : 7000 ≤ N) (hk : q + k ≤ n) (hk2 : k ≤ 12) {τ : fv_S} (h : qM B n τ) {L : List (List Nat × Int32)} (hL : mL L τ) (hl : L.length < 200) (v : Int32) : ∃ τ', zX8_addName N (Int32.ofNat q) (Int32.ofNat (q + k)) v τ = fv_rv τ' ∧ mL (L ++ [(qnm B q k, v)]) τ' ∧ mFl τ τ' := by
  have hn := hS.1
  obtain ⟨i1, i2⟩ := p_inN L.length 200 (by omega) (by omega)
  have sub : Int32.ofNat (q + k) - Int32.ofNat q = Int32.ofNat k := by rw [p_subN _ _ (by omega), show q + k - q = k by omega]
  -- the loop
  have lp : ∀ d j m (s : fv_S), k - j = d → j ≤ k → d + 1 ≤ m → s.1 = τ.1 → s.2.1 = τ.2.1 → fv_n s = fv_n τ → (∀ a, a ≠ 2 → fv_gw s a = fv_gw τ a) → (∀ x, fv_gw s 2 x = if 12 * L.length ≤ x ∧ x < 12 * L.length + j then Int32.ofNat (qcap (B (q + (x - 12 * L.length)))) else fv_gw τ 2 x) →
      ∃ s', zX8_addName_3 N m (Int32.ofNat q) (Int32.ofNat (q + k)) v (Int32.ofNat (q + j)) s = fv_rv (fv_si (fv_sa (fv_sa s' 3 (Int32.ofNat L.length) (Int32.ofNat k)) 4 (Int32.ofNat L.length) v) 13 (Int32.ofNat L.length + 1)) ∧ s'.1 = τ.1 ∧ s'.2.1 = τ.2.1 ∧ fv_n s' = fv_n τ ∧ (∀ a, a ≠ 2 → fv_gw s' a = fv_gw τ a) ∧ (∀ x, fv_gw s' 2 x = if 12 * L.length ≤ x ∧ x < 12 * L.length + k then Int32.ofNat (qcap (B (q + (x - 12 * L.length)))) else fv_gw τ 2 x) := by
    intro d
    induction d with
    | zero =>
      intro j m s e hj hm s1 s2 s3 s4 s5
      obtain ⟨m, rfl⟩ : ∃ j, m = j + 1 := ⟨m - 1, by omega⟩
      have ej : j = k := by omega
      subst ej
      have e13 : fv_gi s 13 = Int32.ofNat L.length := by show s.1 13 = _; rw [s1]; exact hL.1
      refine ⟨s, ?_, s1, s2, s3, s4, s5⟩
      show zX8_addName_3_b _ _ _ _ _ _ _ = _
      unfold zX8_addName_3_b
      rw [if_pos ((p_leN (q + j) (q + j) (by omega) (by omega)).2 (Nat.le_refl _)), e13, if_pos i1, if_pos i1, sub]
    | succ d ih =>
      intro j m s e hj hm s1 s2 s3 s4 s5
      obtain ⟨m, rfl⟩ : ∃ j, m = j + 1 := ⟨m - 1, by omega⟩
      have e13 : fv_gi s 13 = Int32.ofNat L.length := by show s.1 13 = _; rw [s1]; exact hL.1
      obtain ⟨j1, j2⟩ := p_inN (q + j) 6000 (by omega) (by omega)
      obtain ⟨x1, x2⟩ := p_inN (12 * L.length + j) 2400 (by omega) (by omega)
      have hv : fv_ga s 1 (Int32.ofNat (q + j)) = Int32.ofNat (B (q + j)) := by
        show fv_gw s 1 (Int32.ofNat (q + j)).toNatClampNeg = _; rw [j2, s4 1 (by omega), h.2 (q + j) (by omega)]
      have ix : (12 : Int32) * Int32.ofNat L.length + Int32.ofNat (q + j) - Int32.ofNat q = Int32.ofNat (12 * L.length + j) := by
        rw [show (12 : Int32) * Int32.ofNat L.length = Int32.ofNat (12 * L.length) by rw [Int32.ofNat_mul]; rfl, ← Int32.ofNat_add, p_subN _ _ (by omega)]; congr 1; omega
      have st : zX8_addName_3 N (m + 1) (Int32.ofNat q) (Int32.ofNat (q + k)) v (Int32.ofNat (q + j)) s = zX8_addName_3 N m (Int32.ofNat q) (Int32.ofNat (q + k)) v (Int32.ofNat (q + (j + 1))) (fv_sa s 2 (Int32.ofNat (12 * L.length + j)) (Int32.ofNat (qcap (B (q + j))))) := by
        show zX8_addName_3_b _ _ _ _ _ _ _ = _
        unfold zX8_addName_3_b
        rw [if_neg (show ¬ Int32.ofNat (q + k) ≤ Int32.ofNat (q + j) from fun e => by have := (p_leN (q + k) (q + j) (by omega) (by omega)).1 e; omega), if_pos j1, hv, m_cap _ (hS.2.1 _), fv_bi_ri, e13, ix, if_pos x1, p_sucN, show q + j + 1 = q + (j + 1) by omega]
      rw [st]
      refine ih (j + 1) m _ (by omega) (by omega) (by omega) s1 s2 s3 (fun a ha => (s_an _ _ _ _ _ ha).trans (s4 a ha)) (fun x => ?_)
      by_cases c : x = 12 * L.length + j
      · subst c
        have := s_ak s 2 (Int32.ofNat (12 * L.length + j)) (Int32.ofNat (qcap (B (q + j))))
        rw [x2] at this
        rw [this, if_pos (by omega), show q + (12 * L.length + j - 12 * L.length) = q + j by omega]
      · rw [s_ai _ _ _ _ _ (by rw [x2]; exact c), s5]
        by_cases c2 : 12 * L.length ≤ x ∧ x < 12 * L.length + j
        · rw [if_pos c2, if_pos (by omega)]
        · rw [if_neg c2, if_neg (by omega)]
  unfold zX8_addName
  obtain ⟨s', x, s1, s2, s3, s4, s5⟩ := lp k 0 N τ (by omega) (by omega) (by omega) rfl rfl rfl (fun _ _ => rfl) (fun x => by rw [if_neg (by omega)])
  rw [Nat.add_zero] at x
  refine ⟨_, x, ⟨?_, ?_, ?_⟩, ?_, s2, ?_, s3⟩
  · show Int32.ofNat L.length + 1 = _
    rw [p_sucN, List.length_append]; rfl
  · rw [List.length_append]; show L.length + 1 ≤ 200; omega
  · intro i e he
    have a3 : ∀ j, fv_gw (fv_si (fv_sa (fv_sa s' 3 (Int32.ofNat L.length) (Int32.ofNat k)) 4 (Int32.ofNat L.length) v) 13 (Int32.ofNat L.length + 1)) 3 j = if j = L.length then Int32.ofNat k else fv_gw τ 3 j := by
      intro j
      show fv_gw (fv_sa (fv_sa s' 3 (Int32.ofNat L.length) (Int32.ofNat k)) 4 (Int32.ofNat L.length) v) 3 j = _
      rw [s_an _ _ _ _ _ (by omega)]
      by_cases c : j = L.length
      · rw [if_pos c, c]
        have := s_ak s' 3 (Int32.ofNat L.length) (Int32.ofNat k)
        rw [i2] at this; exact this
      · rw [if_neg c, s_ai _ _ _ _ _ (by rw [i2]; exact c), s4 3 (by omega)]
    have a4 : ∀ j, fv_gw (fv_si (fv_sa (fv_sa s' 3 (Int32.ofNat L.length) (Int32.ofNat k)) 4 (Int32.ofNat L.length) v) 13 (Int32.ofNat L.length + 1)) 4 j = if j = L.length then v else fv_gw τ 4 j := by
      intro j
      show fv_gw (fv_sa (fv_sa s' 3 (Int32.ofNat L.length) (Int32.ofNat k)) 4 (Int32.ofNat L.length) v) 4 j = _
      by_cases c : j = L.length
      · rw [if_pos c, c]
        have := s_ak (fv_sa s' 3 (Int32.ofNat L.length) (Int32.ofNat k)) 4 (Int32.ofNat L.length) v
        rw [i2] at this; exact this
      · rw [if_neg c, s_ai _ _ _ _ _ (by rw [i2]; exact c), s_an _ _ _ _ _ (by omega), s4 4 (by omega)]
    have a2 : ∀ j, fv_gw (fv_si (fv_sa (fv_sa s' 3 (Int32.ofNat L.length) (Int32.ofNat k)) 4 (Int32.ofNat L.length) v) 13 (Int32.ofNat L.length + 1)) 2 j = fv_gw s' 2 j := by
      intro j
      show fv_gw (fv_sa (fv_sa s' 3 (Int32.ofNat L.length) (Int32.ofNat k)) 4 (Int32.ofNat L.length) v) 2 j = _
      rw [s_an _ _ _ _ _ (by omega), s_an _ _ _ _ _ (by omega)]
    rw [a3, a4]
    by_cases c : i < L.length
    · rw [List.getElem?_append_left c] at he
      obtain ⟨e1, e2, e3, e4⟩ := hL.2.2 i e he
      rw [if_neg (by omega), if_neg (by omega)]
      refine ⟨e1, e2, e3, fun j c2 hc => ?_⟩
      have hj : j < e.1.length := by
        apply Decidable.byContradiction; intro c3; rw [List.getElem?_eq_none (by omega)] at hc; exact absurd hc (by simp)
      rw [a2, s5, if_neg (by omega)]
      exact e4 j c2 hc
    · have ci : i = L.length := by
        apply Decidable.byContradiction; intro c3
        rw [List.getElem?_eq_none (by rw [List.length_append]; show L.length + 1 ≤ i; omega)] at he; exact absurd he (by simp)
      subst ci
      rw [List.getElem?_append_right (Nat.le_refl _), Nat.sub_self] at he
      have he := (Option.some.inj he).symm
      subst he
      rw [if_pos rfl, if_pos rfl]
      refine ⟨by rw [qnm_len]; exact hk2, by rw [qnm_len], rfl, fun j c2 hc => ?_⟩
      have hj : j < k := by
        apply Decidable.byContradiction; intro c3; rw [List.getElem?_eq_none (by rw [qnm_len]; omega)] at hc; exact absurd hc (by simp)
      rw [qnm_get B k q j hj] at hc
      rw [a2, s5, if_pos (by omega), show q + (12 * L.length + j - 12 * L.length) = q + j by omega, ← Option.some.inj hc]
      exact ⟨rfl, qcap_lt _ (hS.2.1 _)⟩
  · intro j hj
    show (if j = 13 then _ else s'.1 j) = _
    rw [if_neg hj, s1]
  · intro a h2 h3 h4
    show fv_gw (fv_sa (fv_sa s' 3 (Int32.ofNat L.length) (Int32.ofNat k)) 4 (Int32.ofNat L.length) v) a = _
    rw [s_an _ _ _ _ _ h4, s_an _ _ _ _ _ h3, s4 a h2]
