set_option maxRecDepth 100000
set_option maxHeartbeats 4000000
/-! The plain law: what is laid are octets; copies of the model. -/
theorem qoc_256 (b : Int32) : qoc b < 256 := (qoc_e b).2
def qMo (M : qMem) : Prop := ∀ a, M.1 a < 256
theorem qlm_o : ∀ (l : List Nat) (M : qMem) (h : Nat), (∀ b ∈ l, b < 256) → qMo M → qMo (qlm l M h) := by
  intro l
  induction l with
  | nil => intro M h _ hM; exact hM
  | cons b l ih =>
    intro M h hb hM
    refine ih _ (h + 1) (fun c hc => hb c (List.mem_cons_of_mem _ hc)) (fun a => ?_)
    show (if a = h then b else M.1 a) < 256
    split
    · exact hb b (List.mem_cons_self ..)
    · exact hM a
theorem q_o255 : p_TL.all (fun f => Nat.ble f.2.1 255) = true := by decide +kernel
theorem q_olo {k : Nat} {v nx : Int32} : ∀ b ∈ qol k v nx, b < 256 := by
  intro b hb
  unfold qol at hb
  split at hb
  · rw [List.mem_singleton.1 hb]; exact qoc_256 _
  · split at hb
    · rw [List.mem_singleton.1 hb]; exact qoc_256 _
    · split at hb
      · rcases List.mem_cons.1 hb with e | e
        · rw [e]; exact qoc_256 _
        · rw [List.mem_singleton.1 e]; exact qoc_256 _
      · exact absurd hb (by simp)
theorem q_if1 {c : Prop} [Decidable c] {a b : Nat} (h : b ∈ (if c then [a] else [])) : b = a := by
  split at h
  · exact List.mem_singleton.1 h
  · exact absurd h (by simp)
theorem q_ilo {g : p_F} (hg : g.2.1 ≤ 255) {iv v0 v1 nx : Int32} : ∀ b ∈ qIl g iv v0 v1 nx, b < 256 := by
  intro b hb
  unfold qIl qi0 qi1 qi2 at hb
  simp only [List.mem_append] at hb
  rcases hb with h | h | h | h | h | h | h | h
  · rw [q_if1 h]; omega
  · split at h
    · rw [List.mem_singleton.1 h]; omega
    · rw [q_if1 h]; omega
  · rw [q_if1 h]; omega
  · rw [q_if1 h]; exact qoc_256 _
  · rw [List.mem_singleton.1 h]; omega
  · rw [q_if1 h]; exact qoc_256 _
  · exact q_olo b h
  · exact q_olo b h
theorem q_rep {c v : Nat} (h : v < 256) : ∀ b ∈ List.replicate c v, b < 256 := by
  intro b hb
  rw [List.eq_of_mem_replicate hb]; exact h
theorem q_ino {B : Nat → Nat} {n w q p : Nat} {sec : Bool} {L : List (List Nat × Int32)} {org h : Nat} : ∀ b ∈ (qIn B n sec w q L org h p).2.1, b < 256 := by
  have z : ∀ b ∈ ([] : List Nat), b < 256 := fun b hb => absurd hb (by simp)
  cases hm : (qOm B n p).2 with
  | inl f => rw [qIn_i hm]; exact z
  | inr p1 =>
    by_cases c0 : (qT B n p1).1 = 0
    · cases hf : qFo B n w p with
      | none => rw [qIn_n hm c0 hf]; exact z
      | some f =>
        by_cases hs : sec = true
        · by_cases hg : qFi B n w (qen L org) p (Int32.ofNat (h + e_sz f)) f = none
          · rw [qIn_2 hm c0 hf hs hg]
            show ∀ b ∈ qIo B n w (qen L org) p (Int32.ofNat (h + e_sz f)), b < 256
            unfold qIo
            cases hx : qFg B n w (qen L org) p with
            | none => exact z
            | some g =>
              have hmem : g ∈ p_TL := by unfold qFg eFd at hx; exact List.mem_of_find?_eq_some hx
              have := List.all_eq_true.1 q_o255 g hmem
              rw [Nat.ble_eq] at this
              exact q_ilo this
          · rw [qIn_3 hm c0 hf hs hg]; exact q_rep (by omega)
        · rw [qIn_1 hm c0 hf (by cases hx : sec; rfl; exact absurd hx hs)]; exact q_rep (by omega)
    · rw [qIn_w hm c0]; exact z
theorem q_dao {B : Nat → Nat} {n : Nat} (hS : qS B n) {sec wide : Bool} {L : List (List Nat × Int32)} {org : Nat} : ∀ (f p : Nat), ∀ b ∈ (qDa B n sec wide L org f p).2.1, b < 256 := by
  have db : ∀ p, ∀ b ∈ qDb B n wide L org p, b < 256 := by
    intro p b hb
    unfold qDb at hb
    split at hb
    · obtain ⟨i, _, e⟩ := List.mem_map.1 hb
      rw [← e]; exact hS.2.1 _
    · split at hb
      · rcases List.mem_cons.1 hb with e | e
        · rw [e]; exact qoc_256 _
        · rw [List.mem_singleton.1 e]; exact qoc_256 _
      · rw [List.mem_singleton.1 hb]; exact qoc_256 _
  intro f
  induction f with
  | zero => intro p b hb; exact absurd (show b ∈ ([] : List Nat) from hb) (by simp)
  | succ f ih =>
    intro p b hb
    cases ho : qDo B n wide p with
    | inl x => rw [qDa_i ho] at hb; exact absurd (show b ∈ ([] : List Nat) from hb) (by simp)
    | inr p' =>
      by_cases c : (qT B n p').1 = 44
      · rw [qDa_c ho c] at hb
        rcases List.mem_append.1 hb with e | e
        · exact db p b e
        · exact ih _ b e
      · rw [qDa_e ho c] at hb; exact db p b hb
theorem q_spo {B : Nat → Nat} {n p : Nat} {sec : Bool} {L : List (List Nat × Int32)} {org : Nat} : ∀ b ∈ (qSp B n sec L org p).2.1, b < 256 := by
  have z : ∀ b ∈ ([] : List Nat), b < 256 := fun b hb => absurd hb (by simp)
  cases hx : (qEX B n p).2 with
  | inl f => rw [qSp_i hx]; exact z
  | inr p1 =>
    cases hg : qS1 B n L org p with
    | some g => rw [qSp_g hx hg]; exact z
    | none =>
      by_cases c44 : (qT B n p1).1 = 44
      · rw [qSp_c hx hg c44]; exact q_rep (qoc_256 _)
      · rw [qSp_e hx hg c44]; exact q_rep (by omega)
theorem q_swM {B : Nat → Nat} {n : Nat} (hS : qS B n) {sec : Bool} {w q : Nat} {L : List (List Nat × Int32)} {org h : Nat} {I : List (Bool × Bool)} {M : qMem} {p : Nat} (hM : qMo M) : qMo (qSw B n sec w q L org h I M p).2.2.2.2.2 := by
  unfold qSw
  split
  · exact qlm_o _ _ _ q_ino hM
  · split
    · exact hM
    · split
      · exact qlm_o _ _ _ (q_dao hS _ _) hM
      · split
        · exact qlm_o _ _ _ q_spo hM
        · split
          · exact hM
          · split
            · exact hM
            · exact hM
theorem q_sgM {B : Nat → Nat} {n p : Nat} (hS : qS B n) {sec : Bool} {L : List (List Nat × Int32)} {org h : Nat} {I : List (Bool × Bool)} {M : qMem} (hM : qMo M) : qMo (qSg B n sec L org h I M p).2.2.2.2.2 := by
  unfold qSg
  split
  · exact hM
  · split
    · split
      · exact hM
      · exact q_swM hS hM
    · exact hM
theorem q_lnM {B : Nat → Nat} {n p : Nat} (hS : qS B n) {sec : Bool} {L : List (List Nat × Int32)} {org h : Nat} {I : List (Bool × Bool)} {M : qMem} (hM : qMo M) : qMo (qLn B n sec L org h I M p).2.2.2.2.2 := by
  unfold qLn
  split
  · split
    · exact hM
    · exact q_sgM hS hM
  · exact q_sgM hS hM
theorem q_psM {B : Nat → Nat} {n : Nat} (hS : qS B n) {sec : Bool} : ∀ (f ln p : Nat) (L : List (List Nat × Int32)) (h : Nat) (I : List (Bool × Bool)) (M : qMem) (r : Nat × List (List Nat × Int32) × Nat × qMem), qMo M → qPs B n sec f ln p L h I M = .inr r → qMo r.2.2.2 := by
  intro f
  induction f with
  | zero => intro ln p L h I M r _ e; exact absurd (show (.inl (0, 0, 0) : qPr) = .inr r from e) (by simp)
  | succ f ih =>
    intro ln p L h I M r hM e
    by_cases c : n ≤ p
    · rw [qPs_e c] at e
      split at e
      · have := Sum.inr.inj e; rw [← this]; exact hM
      · exact absurd e (by simp)
    · by_cases d : ln + 1 ≤ 300
      · cases hd : qid I with
        | true =>
          cases hg : qLfa B n sec L h h I M p with
          | some g => rw [qPs_lf c d hd hg] at e; exact absurd e (by simp)
          | none => rw [qPs_ln c d hd hg] at e; exact ih _ _ _ _ _ _ r (q_lnM hS hM) e
        | false =>
          cases hg : qsky I (qskw B n p) with
          | inl g => rw [qPs_sf c d hd hg] at e; exact absurd e (by simp)
          | inr I' => rw [qPs_sk c d hd hg] at e; exact ih _ _ _ _ _ _ r hM e
      · rw [qPs_9 c d] at e; exact absurd e (by simp)
theorem pMQ_m {σ τ σ' τ' : fv_S} (h : pMQ σ τ) (hm : pRm (fv_gw σ' 35) (fv_gw τ' 13)) (xw : ∀ k, 36 ≤ k → k ≤ 40 → fv_gw σ' k = fv_gw σ k) (xi : ∀ k, 4352 ≤ k → k < 5248 → fv_gi σ' k = fv_gi σ k) (xl : fv_gl σ' 4366 = fv_gl σ 4366) (mw : ∀ k, 23 ≤ k → fv_gw τ' k = fv_gw τ k) (mi : ∀ k, 72 ≤ k → fv_gi τ' k = fv_gi τ k) (ml : fv_gl τ' 86 = fv_gl τ 86) : pMQ σ' τ' := by
  obtain ⟨_, _, r, hr, m, r', o, x, i, u, s, l, hp, hq, _, _⟩ := h
  refine ⟨σ', τ', r, hr, hm, ?_, ?_, ?_, ?_, ?_, ?_, ?_, ?_, ?_, pFX_r _, pFM_r _⟩
  · rw [xw 36 (by omega) (by omega), mw 23 (by omega)]; exact r'
  · rw [xw 37 (by omega) (by omega), mw 24 (by omega)]; exact o
  · rw [xw 38 (by omega) (by omega), mw 25 (by omega)]; exact x
  · rw [xw 39 (by omega) (by omega), mw 26 (by omega)]; exact i
  · rw [xw 40 (by omega) (by omega), mw 27 (by omega)]; exact u
  · have s1 := pRi_c s (fun k hk => mi k hk)
    unfold pRi at s1 ⊢
    have e : ∀ k, 4352 ≤ k → k < 5248 → σ'.1 k = σ.1 k := xi
    rw [e 4357 (by omega) (by omega), e 4359 (by omega) (by omega), e 4360 (by omega) (by omega), e 4361 (by omega) (by omega), e 4362 (by omega) (by omega), e 4363 (by omega) (by omega), e 4367 (by omega) (by omega), e 4368 (by omega) (by omega), e 4369 (by omega) (by omega), e 4370 (by omega) (by omega)]
    exact s1
  · rw [xl, ml]; exact l
  · rw [xi 4358 (by omega) (by omega)]; exact hp
  · rw [mi 76 (by omega)]; exact hq
/-- the model copies its memory -/
theorem m_17 (N : Nat) : ∀ (d k m : Nat) (τ : fv_S), 65536 - k = d → k ≤ 65536 → d + 1 ≤ m → (∀ i, i < k → fv_gw τ 14 i = fv_gw τ 13 i) → ∃ τ', zX8_forge_17 N m (Int32.ofNat k) τ = fv_bi (zX8_pass N τ') (fun r10 σ9 => if r10 = 0 then zX8_forge_70 N r10 σ9 else fv_bi (zX8_pass N (fv_si (fv_si (fv_si σ9 42 1) 39 0) 40 0)) (fun r12 σ11 => zX8_forge_70 N r12 σ11) fv_no) fv_no ∧ τ'.1 = τ.1 ∧ τ'.2.1 = τ.2.1 ∧ fv_n τ' = fv_n τ ∧ (∀ a, a ≠ 14 → fv_gw τ' a = fv_gw τ a) ∧ ∀ i, i < 65536 → fv_gw τ' 14 i = fv_gw τ 13 i := by
  intro d
  induction d with
  | zero =>
    intro k m τ e hk hm h
    obtain ⟨m, rfl⟩ : ∃ j, m = j + 1 := ⟨m - 1, by omega⟩
    refine ⟨τ, ?_, rfl, rfl, rfl, fun _ _ => rfl, fun i hi => h i (by omega)⟩
    show zX8_forge_17_b N _ _ _ = _
    unfold zX8_forge_17_b
    rw [if_pos (show (65536 : Int32) ≤ Int32.ofNat k from (p_leN 65536 k (by omega) (by omega)).2 (by omega))]
  | succ d ih =>
    intro k m τ e hk hm h
    obtain ⟨m, rfl⟩ : ∃ j, m = j + 1 := ⟨m - 1, by omega⟩
    obtain ⟨i1, i2⟩ := p_inN k 65536 (by omega) (by omega)
    have st : zX8_forge_17 N (m + 1) (Int32.ofNat k) τ = zX8_forge_17 N m (Int32.ofNat (k + 1)) (fv_sa τ 14 (Int32.ofNat k) (fv_gw τ 13 k)) := by
      show zX8_forge_17_b N _ _ _ = _
      unfold zX8_forge_17_b
      rw [if_neg (show ¬ (65536 : Int32) ≤ Int32.ofNat k from fun x => by have := (p_leN 65536 k (by omega) (by omega)).1 x; omega), if_pos i1, if_pos i1, p_sucN, show fv_ga τ 13 (Int32.ofNat k) = fv_gw τ 13 k by show fv_gw τ 13 (Int32.ofNat k).toNatClampNeg = _; rw [i2]]
    rw [st]
    have a13 : fv_gw (fv_sa τ 14 (Int32.ofNat k) (fv_gw τ 13 k)) 13 = fv_gw τ 13 := s_an _ _ _ _ _ (by omega)
    obtain ⟨τ', x, f1, f2, f3, f4, f5⟩ := ih (k + 1) m (fv_sa τ 14 (Int32.ofNat k) (fv_gw τ 13 k)) (by omega) (by omega) (by omega) (fun i hi => by
      rw [a13]
      by_cases c : i = k
      · subst c
        have := s_ak τ 14 (Int32.ofNat i) (fv_gw τ 13 i)
        rw [i2] at this; exact this
      · rw [s_ai _ _ _ _ _ (by rw [i2]; exact c)]; exact h i (by omega))
    exact ⟨τ', x, f1, f2, f3, fun a ha => (f4 a ha).trans (s_an _ _ _ _ _ ha), fun i hi => by rw [f5 i hi, a13]⟩
theorem m_134 (N : Nat) : ∀ (d k m : Nat) (τ : fv_S), 65536 - k = d → k ≤ 65536 → d + 1 ≤ m → (∀ i, i < k → fv_gw τ 13 i = fv_gw τ 14 i) → ∃ τ', zX8_forge_134 N m (Int32.ofNat k) τ = zX8_forge_168 N N 0 (fv_si τ' 51 (fv_gi τ' 13)) ∧ τ'.1 = τ.1 ∧ τ'.2.1 = τ.2.1 ∧ fv_n τ' = fv_n τ ∧ (∀ a, a ≠ 13 → fv_gw τ' a = fv_gw τ a) ∧ ∀ i, i < 65536 → fv_gw τ' 13 i = fv_gw τ 14 i := by
  intro d
  induction d with
  | zero =>
    intro k m τ e hk hm h
    obtain ⟨m, rfl⟩ : ∃ j, m = j + 1 := ⟨m - 1, by omega⟩
    refine ⟨τ, ?_, rfl, rfl, rfl, fun _ _ => rfl, fun i hi => h i (by omega)⟩
    show zX8_forge_134_b N _ _ _ = _
    unfold zX8_forge_134_b
    rw [if_pos (show (65536 : Int32) ≤ Int32.ofNat k from (p_leN 65536 k (by omega) (by omega)).2 (by omega))]
  | succ d ih =>
    intro k m τ e hk hm h
    obtain ⟨m, rfl⟩ : ∃ j, m = j + 1 := ⟨m - 1, by omega⟩
    obtain ⟨i1, i2⟩ := p_inN k 65536 (by omega) (by omega)
    have st : zX8_forge_134 N (m + 1) (Int32.ofNat k) τ = zX8_forge_134 N m (Int32.ofNat (k + 1)) (fv_sa τ 13 (Int32.ofNat k) (fv_gw τ 14 k)) := by
      show zX8_forge_134_b N _ _ _ = _
      unfold zX8_forge_134_b
      rw [if_neg (show ¬ (65536 : Int32) ≤ Int32.ofNat k from fun x => by have := (p_leN 65536 k (by omega) (by omega)).1 x; omega), if_pos i1, if_pos i1, p_sucN, show fv_ga τ 14 (Int32.ofNat k) = fv_gw τ 14 k by show fv_gw τ 14 (Int32.ofNat k).toNatClampNeg = _; rw [i2]]
    rw [st]
    have a14 : fv_gw (fv_sa τ 13 (Int32.ofNat k) (fv_gw τ 14 k)) 14 = fv_gw τ 14 := s_an _ _ _ _ _ (by omega)
    obtain ⟨τ', x, f1, f2, f3, f4, f5⟩ := ih (k + 1) m (fv_sa τ 13 (Int32.ofNat k) (fv_gw τ 14 k)) (by omega) (by omega) (by omega) (fun i hi => by
      rw [a14]
      by_cases c : i = k
      · subst c
        have := s_ak τ 13 (Int32.ofNat i) (fv_gw τ 14 i)
        rw [i2] at this; exact this
      · rw [s_ai _ _ _ _ _ (by rw [i2]; exact c)]; exact h i (by omega))
    exact ⟨τ', x, f1, f2, f3, fun a ha => (f4 a ha).trans (s_an _ _ _ _ _ ha), fun i hi => by rw [f5 i hi, a14]⟩
theorem m_202 (N : Nat) (k168 : Int32 → fv_S → Option fv_O) (i : Nat) (hi : i < 200) : ∀ (d j m : Nat) (τ : fv_S), 12 - j = d → j ≤ 12 → d + 1 ≤ m → ∃ τ', zX8_forge_202 N k168 m (Int32.ofNat i) (Int32.ofNat j) τ = k168 (Int32.ofNat (i + 1)) τ' ∧ τ'.1 = τ.1 ∧ τ'.2.1 = τ.2.1 ∧ fv_n τ' = fv_n τ ∧ (∀ a, a ≠ 17 → fv_gw τ' a = fv_gw τ a) ∧ (∀ x, 12 * i + j ≤ x → x < 12 * i + 12 → fv_gw τ' 17 x = fv_gw τ 2 x) ∧ (∀ x, ¬ (12 * i + j ≤ x ∧ x < 12 * i + 12) → fv_gw τ' 17 x = fv_gw τ 17 x) := by
  intro d
  induction d with
  | zero =>
    intro j m τ e hj hm
    obtain ⟨m, rfl⟩ : ∃ j, m = j + 1 := ⟨m - 1, by omega⟩
    refine ⟨τ, ?_, rfl, rfl, rfl, fun _ _ => rfl, fun x a b => by omega, fun _ _ => rfl⟩
    show zX8_forge_202_b N _ _ _ _ _ = _
    unfold zX8_forge_202_b
    rw [if_pos (show (12 : Int32) ≤ Int32.ofNat j from (p_leN 12 j (by omega) (by omega)).2 (by omega)), p_sucN]
  | succ d ih =>
    intro j m τ e hj hm
    obtain ⟨m, rfl⟩ : ∃ j, m = j + 1 := ⟨m - 1, by omega⟩
    obtain ⟨i1, i2⟩ := p_inN (12 * i + j) 2400 (by omega) (by omega)
    have ei : (12 : Int32) * Int32.ofNat i + Int32.ofNat j = Int32.ofNat (12 * i + j) := by rw [Int32.ofNat_add, Int32.ofNat_mul]; rfl
    have st : zX8_forge_202 N k168 (m + 1) (Int32.ofNat i) (Int32.ofNat j) τ = zX8_forge_202 N k168 m (Int32.ofNat i) (Int32.ofNat (j + 1)) (fv_sa τ 17 (Int32.ofNat (12 * i + j)) (fv_gw τ 2 (12 * i + j))) := by
      show zX8_forge_202_b N _ _ _ _ _ = _
      unfold zX8_forge_202_b
      rw [if_neg (show ¬ (12 : Int32) ≤ Int32.ofNat j from fun x => by have := (p_leN 12 j (by omega) (by omega)).1 x; omega), ei, if_pos i1, if_pos i1, p_sucN, show fv_ga τ 2 (Int32.ofNat (12 * i + j)) = fv_gw τ 2 (12 * i + j) by show fv_gw τ 2 (Int32.ofNat (12 * i + j)).toNatClampNeg = _; rw [i2]]
    rw [st]
    have a2 : fv_gw (fv_sa τ 17 (Int32.ofNat (12 * i + j)) (fv_gw τ 2 (12 * i + j))) 2 = fv_gw τ 2 := s_an _ _ _ _ _ (by omega)
    obtain ⟨τ', x, f1, f2, f3, f4, f5, f6⟩ := ih (j + 1) m (fv_sa τ 17 (Int32.ofNat (12 * i + j)) (fv_gw τ 2 (12 * i + j))) (by omega) (by omega) (by omega)
    refine ⟨τ', x, f1, f2, f3, fun a ha => (f4 a ha).trans (s_an _ _ _ _ _ ha), fun y a b => ?_, fun y hy => ?_⟩
    · by_cases c : y = 12 * i + j
      · subst c
        rw [f6 _ (by omega)]
        have := s_ak τ 17 (Int32.ofNat (12 * i + j)) (fv_gw τ 2 (12 * i + j))
        rw [i2] at this; exact this
      · rw [f5 y (by omega) b, a2]
    · rw [f6 y (by omega), s_ai _ _ _ _ _ (by rw [i2]; omega)]
theorem m_168 {N len : Nat} (hN : 7000 ≤ N) (hl : len ≤ 200) : ∀ (d i m : Nat) (τ : fv_S), len - i = d → i ≤ len → d + 1 ≤ m → fv_gi τ 13 = Int32.ofNat len → ∃ τ', zX8_forge_168 N m (Int32.ofNat i) τ = fv_ri (fv_gi τ 39) τ' ∧ τ'.1 = τ.1 ∧ τ'.2.1 = τ.2.1 ∧ fv_n τ' = fv_n τ ∧ (∀ a, a ≠ 17 → a ≠ 18 → a ≠ 19 → fv_gw τ' a = fv_gw τ a) ∧ (∀ x, i ≤ x → x < len → fv_gw τ' 18 x = fv_gw τ 3 x ∧ fv_gw τ' 19 x = fv_gw τ 4 x) ∧ (∀ x, x < i → fv_gw τ' 18 x = fv_gw τ 18 x ∧ fv_gw τ' 19 x = fv_gw τ 19 x) ∧ (∀ x, 12 * i ≤ x → x < 12 * len → fv_gw τ' 17 x = fv_gw τ 2 x) ∧ (∀ x, x < 12 * i → fv_gw τ' 17 x = fv_gw τ 17 x) := by
  intro d
  induction d with
  | zero =>
    intro i m τ e hi hm h
    obtain ⟨m, rfl⟩ : ∃ j, m = j + 1 := ⟨m - 1, by omega⟩
    refine ⟨τ, ?_, rfl, rfl, rfl, fun _ _ _ _ => rfl, fun x a b => by omega, fun _ _ => ⟨rfl, rfl⟩, fun x a b => by omega, fun _ _ => rfl⟩
    show zX8_forge_168_b N _ _ _ = _
    unfold zX8_forge_168_b
    rw [h, if_pos ((p_leN len i (by omega) (by omega)).2 (by omega))]
  | succ d ih =>
    intro i m τ e hi hm h
    obtain ⟨m, rfl⟩ : ∃ j, m = j + 1 := ⟨m - 1, by omega⟩
    obtain ⟨i1, i2⟩ := p_inN i 200 (by omega) (by omega)
    have g3 : fv_ga τ 3 (Int32.ofNat i) = fv_gw τ 3 i := by show fv_gw τ 3 (Int32.ofNat i).toNatClampNeg = _; rw [i2]
    have g4 : fv_ga (fv_sa τ 18 (Int32.ofNat i) (fv_gw τ 3 i)) 4 (Int32.ofNat i) = fv_gw τ 4 i := by show fv_gw (fv_sa τ 18 (Int32.ofNat i) (fv_gw τ 3 i)) 4 (Int32.ofNat i).toNatClampNeg = _; rw [i2, s_an _ _ _ _ _ (by omega)]
    have g4' : fv_ga τ 4 (Int32.ofNat i) = fv_gw τ 4 i := by show fv_gw τ 4 (Int32.ofNat i).toNatClampNeg = _; rw [i2]
    have st : zX8_forge_168 N (m + 1) (Int32.ofNat i) τ = zX8_forge_202 N (zX8_forge_168 N m) N (Int32.ofNat i) (Int32.ofNat 0) (fv_sa (fv_sa τ 18 (Int32.ofNat i) (fv_gw τ 3 i)) 19 (Int32.ofNat i) (fv_gw τ 4 i)) := by
      show zX8_forge_168_b N _ _ _ = _
      unfold zX8_forge_168_b
      rw [h, if_neg (fun x => by have := (p_leN len i (by omega) (by omega)).1 x; omega), if_pos i1, if_pos i1, if_pos i1, if_pos i1, g3, g4']
      rfl
    rw [st]
    obtain ⟨t1, x1, a1, a2, a3, a4, a5, a6⟩ := m_202 N (zX8_forge_168 N m) i (by omega) 12 0 N (fv_sa (fv_sa τ 18 (Int32.ofNat i) (fv_gw τ 3 i)) 19 (Int32.ofNat i) (fv_gw τ 4 i)) rfl (by omega) (by omega)
    rw [x1]
    obtain ⟨t2, x2, b1, b2, b3, b4, b5, b6, b7, b8⟩ := ih (i + 1) m t1 (by omega) (by omega) (by omega) (by show t1.1 13 = _; rw [a1]; exact h)
    have w : ∀ a, a ≠ 17 → a ≠ 18 → a ≠ 19 → fv_gw t1 a = fv_gw τ a := fun a h1 h2 h3 => by rw [a4 a h1, s_an _ _ _ _ _ h3, s_an _ _ _ _ _ h2]
    have w18 : ∀ x, fv_gw t1 18 x = if x = i then fv_gw τ 3 i else fv_gw τ 18 x := fun x => by
      rw [a4 18 (by omega), s_an _ _ _ _ _ (by omega)]
      by_cases c : x = i
      · rw [if_pos c, c]
        have := s_ak τ 18 (Int32.ofNat i) (fv_gw τ 3 i)
        rw [i2] at this; exact this
      · rw [if_neg c, s_ai _ _ _ _ _ (by rw [i2]; exact c)]
    have w19 : ∀ x, fv_gw t1 19 x = if x = i then fv_gw τ 4 i else fv_gw τ 19 x := fun x => by
      rw [a4 19 (by omega)]
      by_cases c : x = i
      · rw [if_pos c, c]
        have := s_ak (fv_sa τ 18 (Int32.ofNat i) (fv_gw τ 3 i)) 19 (Int32.ofNat i) (fv_gw τ 4 i)
        rw [i2] at this; exact this
      · rw [if_neg c, s_ai _ _ _ _ _ (by rw [i2]; exact c), s_an _ _ _ _ _ (by omega)]
    have w2 : fv_gw t1 2 = fv_gw τ 2 := w 2 (by omega) (by omega) (by omega)
    have w2' : fv_gw (fv_sa (fv_sa τ 18 (Int32.ofNat i) (fv_gw τ 3 i)) 19 (Int32.ofNat i) (fv_gw τ 4 i)) 2 = fv_gw τ 2 := by rw [s_an _ _ _ _ _ (by omega), s_an _ _ _ _ _ (by omega)]
    have w17' : fv_gw (fv_sa (fv_sa τ 18 (Int32.ofNat i) (fv_gw τ 3 i)) 19 (Int32.ofNat i) (fv_gw τ 4 i)) 17 = fv_gw τ 17 := by rw [s_an _ _ _ _ _ (by omega), s_an _ _ _ _ _ (by omega)]
    refine ⟨t2, ?_, b1.trans a1, b2.trans a2, b3.trans a3, fun a h1 h2 h3 => (b4 a h1 h2 h3).trans (w a h1 h2 h3), fun x h1 h2 => ?_, fun x h1 => ?_, fun x h1 h2 => ?_, fun x h1 => ?_⟩
    · rw [x2]
      show fv_ri (t1.1 39) t2 = fv_ri (τ.1 39) t2
      rw [a1]; rfl
    · by_cases c : x = i
      · have := b6 x (by omega)
        rw [this.1, this.2, w18, w19, if_pos c, if_pos c, c]; exact ⟨rfl, rfl⟩
      · have := b5 x (by omega) h2
        rw [this.1, this.2, w 3 (by omega) (by omega) (by omega), w 4 (by omega) (by omega) (by omega)]; exact ⟨rfl, rfl⟩
    · have := b6 x (by omega)
      rw [this.1, this.2, w18, w19, if_neg (by omega), if_neg (by omega)]; exact ⟨rfl, rfl⟩
    · by_cases c : x < 12 * i + 12
      · rw [b8 x (by omega), a5 x (by omega) c, w2']
      · rw [b7 x (by omega) h2, w2]
    · rw [b8 x (by omega), a6 x (by omega), w17']
