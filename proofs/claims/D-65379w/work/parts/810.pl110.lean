set_option maxRecDepth 100000
set_option maxHeartbeats 4000000
/-! The plain law: names hold plain signs; the passes begin. -/
theorem qnm_mem {B : Nat → Nat} : ∀ (k q c : Nat), c ∈ qnm B q k → ∃ i, q ≤ i ∧ i < q + k ∧ c = qcap (B i) := by
  intro k
  induction k with
  | zero => intro q c h; exact absurd h (by unfold qnm; simp)
  | succ k ih =>
    intro q c h
    have h : c ∈ qcap (B q) :: qnm B (q + 1) k := h
    rcases List.mem_cons.1 h with e | e
    · exact ⟨q, Nat.le_refl _, by omega, e⟩
    · obtain ⟨i, a, b, d⟩ := ih (q + 1) c e
      exact ⟨i, by omega, by omega, d⟩
theorem q_na128 {B : Nat → Nat} {n p : Nat} (hS : qS B n) (h : (qT B n p).1 = 1) : ∀ c ∈ qna B (qT B n p), c < 128 := by
  intro c hc
  unfold qT at h hc
  generalize qrun (fun i => qbl (B i)) n p = q at h hc
  have fin : ∀ b, b < 256 → qnp b = true → qcap b < 128 := by decide +kernel
  rw [qTq_n h] at hc
  obtain ⟨i, a, b, d⟩ := qnm_mem _ _ _ hc
  have a : q ≤ i := a
  by_cases cc : i < qrun (fun i => qnp (B i)) n q
  · have np : qnp (B i) = true := qrun_in (P := fun i => qnp (B i)) a cc
    rw [d]; exact fin _ (hS.2.1 i) np
  · have b : i < q + ((if qnm B q (qrun (fun i => qnp (B i)) n q - q) = [65, 70] ∧ B (qrun (fun i => qnp (B i)) n q) = 39 then qrun (fun i => qnp (B i)) n q + 1 else qrun (fun i => qnp (B i)) n q) - q) := b
    have lq := (qrun_le (fun i => qnp (B i)) n q).1
    split at b
    · rename_i hx
      have : i = qrun (fun i => qnp (B i)) n q := by omega
      rw [d, this, hx.2]; decide
    · omega
def qLo (L : List (List Nat × Int32)) : Prop := ∀ e ∈ L, ∀ c ∈ e.1, c < 128
theorem qLo_a {L : List (List Nat × Int32)} (h : qLo L) {l : List Nat} (hl : ∀ c ∈ l, c < 128) (v : Int32) : qLo (L ++ [(l, v)]) := by
  intro e he c hc
  rcases List.mem_append.1 he with a | a
  · exact h e a c hc
  · rw [List.mem_singleton.1 a] at hc; exact hl c hc
theorem q_swO {B : Nat → Nat} {n : Nat} {sec : Bool} {w q : Nat} {L : List (List Nat × Int32)} {org h : Nat} {I : List (Bool × Bool)} {M : qMem} {p : Nat} : (qSw B n sec w q L org h I M p).2.2.1 = L := by
  unfold qSw
  split
  · rfl
  · split
    · rfl
    · split
      · rfl
      · split
        · rfl
        · split
          · rfl
          · split
            · rfl
            · rfl
theorem q_sgO {B : Nat → Nat} {n p : Nat} (hS : qS B n) {sec : Bool} {L : List (List Nat × Int32)} {org h : Nat} {I : List (Bool × Bool)} {M : qMem} (hL : qLo L) : qLo (qSg B n sec L org h I M p).2.2.1 := by
  unfold qSg
  split
  · exact hL
  · split
    · rename_i c1
      split
      · show qLo (qEqL B n (qT B n p).2.2.1 sec L org (qna B (qT B n p)))
        unfold qEqL
        split
        · exact hL
        · exact qLo_a hL (q_na128 hS c1) _
      · rw [q_swO]; exact hL
    · exact hL
theorem q_lnO {B : Nat → Nat} {n p : Nat} (hS : qS B n) {sec : Bool} {L : List (List Nat × Int32)} {org h : Nat} {I : List (Bool × Bool)} {M : qMem} (hL : qLo L) : qLo (qLn B n sec L org h I M p).2.2.1 := by
  unfold qLn
  split
  · rename_i c1
    split
    · exact hL
    · apply q_sgO hS
      split
      · exact hL
      · exact qLo_a hL (q_na128 hS c1.1) _
  · exact q_sgO hS hL
theorem q_psO {B : Nat → Nat} {n : Nat} (hS : qS B n) {sec : Bool} : ∀ (f ln p : Nat) (L : List (List Nat × Int32)) (h : Nat) (I : List (Bool × Bool)) (M : qMem) (r : Nat × List (List Nat × Int32) × Nat × qMem), qLo L → qPs B n sec f ln p L h I M = .inr r → qLo r.2.1 := by
  intro f
  induction f with
  | zero => intro ln p L h I M r _ e; exact absurd (show (.inl (0, 0, 0) : qPr) = .inr r from e) (by simp)
  | succ f ih =>
    intro ln p L h I M r hL e
    by_cases c : n ≤ p
    · rw [qPs_e c] at e
      split at e
      · have := Sum.inr.inj e; rw [← this]; exact hL
      · exact absurd e (by simp)
    · by_cases d : ln + 1 ≤ 300
      · cases hd : qid I with
        | true =>
          cases hg : qLfa B n sec L h h I M p with
          | some g => rw [qPs_lf c d hd hg] at e; exact absurd e (by simp)
          | none => rw [qPs_ln c d hd hg] at e; exact ih _ _ _ _ _ _ r (q_lnO hS hL) e
        | false =>
          cases hg : qsky I (qskw B n p) with
          | inl g => rw [qPs_sf c d hd hg] at e; exact absurd e (by simp)
          | inr I' => rw [qPs_sk c d hd hg] at e; exact ih _ _ _ _ _ _ r hL e
      · rw [qPs_9 c d] at e; exact absurd e (by simp)
/-- the class makes its capitals -/
theorem x_bg {B : Nat → Nat} {n N : Nat} (hS : qS B n) : ∀ (d k m : Nat) (σ : fv_S), n - k = d → k ≤ n → d + 1 ≤ m → fv_gi σ 1665 = Int32.ofNat n → (∀ i, i < n → fv_gw σ 14 i = p_se (Int32.ofNat (B i))) → ∃ σ', zX4_begin_2 N m (Int32.ofNat k) σ = fv_rv σ' ∧ (∀ j, j ≠ 1667 → j ≠ 1668 → fv_gi σ' j = fv_gi σ j) ∧ σ'.2.1 = σ.2.1 ∧ (∀ a, a ≠ 15 → fv_gw σ' a = fv_gw σ a) ∧ fv_n σ' = fv_n σ ∧ (∀ i, i < k → fv_gw σ' 15 i = fv_gw σ 15 i) ∧ (∀ i, k ≤ i → i < n → fv_gw σ' 15 i = p_se (Int32.ofNat (qcap (B i)))) ∧ fv_gi σ' 1667 = 0 ∧ fv_gi σ' 1668 = 0 := by
  have hn := hS.1
  intro d
  induction d with
  | zero =>
    intro k m σ e hk hm h1 h2
    obtain ⟨m, rfl⟩ : ∃ j, m = j + 1 := ⟨m - 1, by omega⟩
    refine ⟨fv_si (fv_si σ 1667 0) 1668 0, ?_, fun j a b => (if_neg b).trans (if_neg a), rfl, fun _ _ => rfl, rfl, fun _ _ => rfl, fun i a b => by omega, rfl, rfl⟩
    show zX4_begin_2_b N _ _ _ = _
    unfold zX4_begin_2_b
    rw [h1, if_pos ((p_leN n k (by omega) (by omega)).2 (by omega))]
  | succ d ih =>
    intro k m σ e hk hm h1 h2
    obtain ⟨m, rfl⟩ : ∃ j, m = j + 1 := ⟨m - 1, by omega⟩
    obtain ⟨i1, i2⟩ := p_inN k 6000 (by omega) (by omega)
    have g14 : fv_ga σ 14 (Int32.ofNat k) = p_se (Int32.ofNat (B k)) := by show fv_gw σ 14 (Int32.ofNat k).toNatClampNeg = _; rw [i2]; exact h2 k (by omega)
    have fin : ∀ b, b < 256 → (if p_se (Int32.ofNat b) < 97 then p_se (Int32.ofNat b) else if 122 < p_se (Int32.ofNat b) then p_se (Int32.ofNat b) else p_se (Int32.ofNat b) - 32) = p_se (Int32.ofNat (qcap b)) := by decide +kernel
    have pse : ∀ b, b < 256 → p_se (p_se (p_se (Int32.ofNat b))) = p_se (Int32.ofNat b) := by decide +kernel
    have st : zX4_begin_2 N (m + 1) (Int32.ofNat k) σ = zX4_begin_2 N m (Int32.ofNat (k + 1)) (fv_sa σ 15 (Int32.ofNat k) (p_se (Int32.ofNat (qcap (B k))))) := by
      show zX4_begin_2_b N _ _ _ = _
      unfold zX4_begin_2_b zX4_begin_49 zX4_begin_55
      rw [h1, if_neg (fun x => by have := (p_leN n k (by omega) (by omega)).1 x; omega), if_pos i1, if_pos i1, if_pos i1, if_pos i1, if_pos i1, g14, p_sucN]
      have f := fin (B k) (hS.2.1 k)
      have v := pse (qcap (B k)) (qcap_lt _ (hS.2.1 k))
      by_cases c1 : p_se (Int32.ofNat (B k)) < 97
      · rw [if_pos c1] at f ⊢
        rw [f, show ((Int32.toInt8 ((Int32.toInt8 (p_se (Int32.ofNat (qcap (B k))))).toInt32)).toInt32) = p_se (Int32.ofNat (qcap (B k))) from v]
      · rw [if_neg c1] at f ⊢
        by_cases c2 : (122 : Int32) < p_se (Int32.ofNat (B k))
        · rw [if_pos c2] at f ⊢
          rw [f, show ((Int32.toInt8 ((Int32.toInt8 (p_se (Int32.ofNat (qcap (B k))))).toInt32)).toInt32) = p_se (Int32.ofNat (qcap (B k))) from v]
        · rw [if_neg c2] at f ⊢
          rw [f, show ((Int32.toInt8 ((Int32.toInt8 (p_se (Int32.ofNat (qcap (B k))))).toInt32)).toInt32) = p_se (Int32.ofNat (qcap (B k))) from v, if_pos i1]
    rw [st]
    obtain ⟨σ', x, f1, f2, f3, f4, f5, f6, f7, f8⟩ := ih (k + 1) m (fv_sa σ 15 (Int32.ofNat k) (p_se (Int32.ofNat (qcap (B k))))) (by omega) (by omega) (by omega) h1 (fun i hi => by rw [s_an _ _ _ _ _ (by omega)]; exact h2 i hi)
    have r15 : ∀ i, i ≠ k → fv_gw (fv_sa σ 15 (Int32.ofNat k) (p_se (Int32.ofNat (qcap (B k))))) 15 i = fv_gw σ 15 i := fun i hi => s_ai _ _ _ _ _ (by rw [i2]; exact hi)
    refine ⟨σ', x, f1, f2, fun a ha => (f3 a ha).trans (s_an _ _ _ _ _ ha), f4, fun i hi => (f5 i (by omega)).trans (r15 i (by omega)), fun i a b => ?_, f7, f8⟩
    by_cases c : i = k
    · subst c
      rw [f5 i (by omega)]
      have := s_ak σ 15 (Int32.ofNat i) (p_se (Int32.ofNat (qcap (B i))))
      rw [i2] at this; exact this
    · exact f6 i (by omega) b
/-- a pass of the class, from its start -/
theorem x_pas {B : Nat → Nat} {n N : Nat} (hS : qS B n) (hN : 70000 ≤ N) {sec : Bool} {L : List (List Nat × Int32)} {M : qMem} {σ : fv_S} (h1 : fv_gi σ 1665 = Int32.ofNat n) (h2 : ∀ i, i < n → fv_gw σ 14 i = p_se (Int32.ofNat (B i))) (hL : xL L σ) (h42 : fv_gi σ 1542 = 0) (h46 : fv_gi σ 1546 = 0) (h47 : fv_gi σ 1547 = 0) (hF : pFm σ) (hM : sec = true → (∀ a, a < 65536 → fv_gw σ 20 a = p_se (Int32.ofNat (M.1 a))) ∧ M.2.1 = 0 ∧ M.2.2 = 0) (hG : sec = true → ∃ L1 M1 r, qPs B n false 302 0 0 L1 0 [] M1 = .inr r ∧ r.2.1 = L) :
    xPo B n sec (qPs B n sec 302 0 0 L 0 [] M) σ (zX3_pass N (q01 sec) σ) := by
  have hn := hS.1
  unfold zX3_pass zX4_begin
  rw [if_pos (show q01 sec = 0 ∨ q01 sec = 1 by cases sec; exact Or.inl rfl; exact Or.inr rfl), show vp_nar .boolean 1 = 1 by decide +kernel]
  generalize hs : fv_sa (fv_si (fv_si (fv_si (fv_si (fv_si (fv_si σ 1541 (q01 sec)) 1543 0) 1545 0) 1544 0) 1559 0) 1562 0) 27 0 1 = s
  have gi : ∀ k, k ≠ 1541 → k ≠ 1543 → k ≠ 1545 → k ≠ 1544 → k ≠ 1559 → k ≠ 1562 → fv_gi s k = fv_gi σ k := fun k a b c d e f => by rw [← hs]; exact (if_neg f).trans ((if_neg e).trans ((if_neg d).trans ((if_neg c).trans ((if_neg b).trans (if_neg a)))))
  have gw : ∀ a, a ≠ 27 → fv_gw s a = fv_gw σ a := fun a ha => by rw [← hs, s_an _ _ _ _ _ ha]; rfl
  have g27 : fv_gw s 27 0 = 1 := by rw [← hs]; exact s_ak _ 27 0 1
  have v41 : fv_gi s 1541 = q01 sec := by rw [← hs]; rfl
  have v43 : fv_gi s 1543 = Int32.ofNat 0 := by rw [← hs]; rfl
  have v45 : fv_gi s 1545 = 0 := by rw [← hs]; rfl
  have v44 : fv_gi s 1544 = Int32.ofNat 0 := by rw [← hs]; rfl
  have v59 : fv_gi s 1559 = 0 := by rw [← hs]; rfl
  have v62 : fv_gi s 1562 = 0 := by rw [← hs]; rfl
  have l2 : s.2.1 = σ.2.1 := by rw [← hs]; rfl
  have ln : fv_n s = fv_n σ := by rw [← hs]; rfl
  clear hs
  obtain ⟨s1, x1, f1, f2, f3, f4, f5, f6, f7, f8⟩ := x_bg (N := N) hS n 0 N s (by omega) (by omega) (by omega) ((gi 1665 (by omega) (by omega) (by omega) (by omega) (by omega) (by omega)).trans h1) (fun i hi => by rw [gw 14 (by omega)]; exact h2 i hi)
  rw [show zX4_begin_2 N N 0 s = fv_rv s1 from x1, fv_bv_rv]
  have gi1 : ∀ k, k ≠ 1541 → k ≠ 1543 → k ≠ 1545 → k ≠ 1544 → k ≠ 1559 → k ≠ 1562 → k ≠ 1667 → k ≠ 1668 → fv_gi s1 k = fv_gi σ k := fun k a b c d e f g h => (f1 k g h).trans (gi k a b c d e f)
  have gw1 : ∀ a, a ≠ 27 → a ≠ 15 → fv_gw s1 a = fv_gw σ a := fun a h1 h2 => (f3 a h2).trans (gw a h1)
  have o6 : ∀ k, k = 1665 ∨ k = 2051 ∨ k = 1542 ∨ k = 1546 ∨ k = 1547 ∨ k = 391 → fv_gi s1 k = fv_gi σ k := fun k hk => gi1 k (by omega) (by omega) (by omega) (by omega) (by omega) (by omega) (by omega) (by omega)
  have e46 := (o6 1546 (by omega)).trans h46
  have e47 := (o6 1547 (by omega)).trans h47
  have z : xZ B n sec L 0 [] 0 s1 ∨ True := Or.inr trivial
  have zz : xZ B n sec L 0 [] 0 (fv_si s1 1565 (Int32.ofNat 0)) := by
    refine ⟨⟨(o6 1665 (by omega)).trans h1, fun i hi => ?_⟩, ⟨(o6 2051 (by omega)).trans hL.1, hL.2.1, ?_⟩, (f1 1541 (by omega) (by omega)).trans v41, ⟨(o6 1542 (by omega)).trans h42, fun _ => ⟨e46, e47⟩⟩, (f1 1543 (by omega) (by omega)).trans v43, rfl, (f1 1562 (by omega) (by omega)).trans v62, (f1 1559 (by omega) (by omega)).trans v59, ?_⟩
    · show fv_gw s1 14 i = _ ∧ fv_gw s1 15 i = _
      rw [gw1 14 (by omega) (by omega)]
      exact ⟨h2 i hi, f6 i (by omega) hi⟩
    · show ∀ i e, L[i]? = some e → e.1.length ≤ 12 ∧ fv_gw s1 18 i = _ ∧ fv_gw s1 19 i = _ ∧ ∀ j c, e.1[j]? = some c → fv_gw s1 17 (12 * i + j) = _ ∧ _
      rw [gw1 17 (by omega) (by omega), gw1 18 (by omega) (by omega), gw1 19 (by omega) (by omega)]; exact hL.2.2
    · show fv_gw s1 27 0 = 1
      rw [f3 27 (by omega)]; exact g27
  have q : xFq σ s1 := ⟨fun k a b c => gi1 k (by omega) (by omega) (by omega) (by omega) (by omega) (by omega) (by omega) (by omega), ⟨f2.trans l2, xB17_e (gw1 17 (by omega) (by omega))⟩, fun a ha => gw1 a (by omega) (by omega)⟩
  refine xPo_t q (f4.trans ln) (x_ps (N := N) hS hN 302 0 0 L 0 [] M N s1 (by omega) (by omega) (by omega) (by omega) (by omega) (by simp) zz f7 f8 ((f1 1544 (by omega) (by omega)).trans v44) (pFm_c hF (o6 391 (by omega)) (fun k a b => gw1 k (by omega) (by omega))) (fun hs => ?_) hG)
  obtain ⟨m1, m2, m3⟩ := hM hs
  refine ⟨fun a ha => by rw [gw1 20 (by omega) (by omega)]; exact m1 a ha, ?_, ?_, ?_⟩
  · rw [f1 1545 (by omega) (by omega), v45, m2]; rfl
  · rw [e47, m2]; rfl
  · rw [e46, m3]; rfl
/-- a pass of the model, from its start -/
theorem m_pas {B : Nat → Nat} {n N : Nat} (hS : qS B n) (hN : 70000 ≤ N) {sec : Bool} {L : List (List Nat × Int32)} {M : qMem} {τ : fv_S} (hQ : qM B n τ) (hL : mL L τ) (h42 : fv_gi τ 42 = q01 sec) (h8 : fv_gi τ 8 = 0) (hM : sec = true → mMe M τ ∧ M.2.1 = 0) (hG : sec = true → ∃ L1 M1 r, qPs B n false 302 0 0 L1 0 [] M1 = .inr r ∧ r.2.1 = L) :
    mPo B n sec (qPs B n sec 302 0 0 L 0 [] M) τ (zX8_pass N τ) := by
  unfold zX8_pass
  have q : mFq2 τ (fv_si (fv_si (fv_si (fv_si τ 20 0) 45 0) 41 0) 2 0) := mFq2_si (mFq2_si (mFq2_si (mFq2_si (mFq2_r τ) 20 _ (by omega)) 45 _ (by omega)) 41 _ (by omega)) 2 _ (by omega)
  have zz : mZ B n sec L 0 [] 0 (fv_si (fv_si (fv_si (fv_si (fv_si τ 20 0) 45 0) 41 0) 2 0) 21 (Int32.ofNat 0)) := ⟨⟨hQ.1, hQ.2⟩, ⟨hL.1, hL.2⟩, h42, rfl, rfl, h8, rfl, trivial⟩
  exact mPo_t q (fun _ => ⟨rfl, rfl, rfl⟩) (m_ps (N := N) hS hN 302 0 0 L 0 [] M N 0 _ (by omega) (by omega) (by omega) (by omega) (by omega) (by simp) zz rfl (Or.inl rfl) rfl (fun hs => mMe_s (hM hs).1 ⟨rfl, rfl, rfl⟩) (fun hs => by rw [(hM hs).2]; exact Nat.zero_le _) hG)
