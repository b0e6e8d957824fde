set_option maxRecDepth 100000
set_option maxHeartbeats 4000000
/-! The plain law: which form an instruction is, in the class. -/
def qrg (v : Nat) : Nat := if v = 7 then 75 else if 6 ≤ v then 88 else 76 + v
def qpr (v : Nat) : Nat := if v = 4 then 84 else if v = 5 then 85 else if v = 6 then 90 else if v = 7 then 91 else 86 + v
def qcn (v : Nat) : Nat := if v = 3 then 77 else if 3 ≤ v then 91 + v else 92 + v
def qan (v : Nat) : Nat := if 2 ≤ v then (if v = 2 then 89 else if v = 3 then 77 else 85 + v) else 86 + v
theorem k_xn : ∀ v, v < 8 → p_v (zX6_register (Int32.ofNat v) p_σd) = Int32.ofNat (qrg v) ∧ p_v (zX6_pair (Int32.ofNat v) p_σd) = Int32.ofNat (qpr v) ∧ p_v (zX6_condition (Int32.ofNat v) p_σd) = Int32.ofNat (qcn v) ∧ p_v (zX6_atName (Int32.ofNat v) p_σd) = Int32.ofNat (qan v) ∧ qrg v < 99 ∧ qpr v < 99 ∧ qcn v < 99 ∧ qan v < 99 := by decide +kernel
theorem K_xr (x : Int32) : p_K (fun τ => zX6_register x τ) := by
  unfold zX6_register; repeat (first | exact p_Kr _ | with_reducible apply p_Ki)
theorem K_xp (x : Int32) : p_K (fun τ => zX6_pair x τ) := by
  unfold zX6_pair; repeat (first | exact p_Kr _ | with_reducible apply p_Ki)
theorem K_xc (x : Int32) : p_K (fun τ => zX6_condition x τ) := by
  unfold zX6_condition; repeat (first | exact p_Kr _ | with_reducible apply p_Ki)
theorem K_xa (x : Int32) : p_K (fun τ => zX6_atName x τ) := by
  unfold zX6_atName; repeat (first | exact p_Kr _ | with_reducible apply p_Ki)
/-- whether an operand fits a form's: its sort c, its name j; whether any number will do, or which -/
def qft (c j : Nat) (any : Bool) (u k v : Nat) : Bool :=
  bif Nat.beq k 0 then Nat.beq c 0 else
  bif Nat.beq k 1 then (bif Nat.beq v 6 then Nat.beq c 2 && Nat.beq j 88 else Nat.beq c 1 && Nat.beq j (qrg v)) else
  bif Nat.beq k 2 then Nat.beq c 1 && Nat.beq j (qpr v) else
  bif Nat.beq k 3 then Nat.beq c 1 && Nat.beq j (qcn v) else
  bif Nat.beq k 7 || Nat.beq k 8 then Nat.beq c 5 else
  bif Nat.beq k 9 then (bif Nat.ble 4 v then Nat.beq c 3 && Nat.beq j (85 + v) else Nat.beq c 2 && Nat.beq j (qan v)) else
  bif Nat.beq k 10 then (Nat.beq c 3 || Nat.beq c 4) && Nat.beq j (90 + v) else
  bif Nat.beq k 11 || Nat.beq k 12 || Nat.beq k 13 then Nat.beq c 6 && (any || Nat.beq u v) else
  bif Nat.beq k 14 then Nat.beq c 1 && Nat.beq j (82 + v) else Nat.beq c 6
/-- the class holds an operand, as far as its form goes -/
def xOf (o c j : Nat) (any : Bool) (u : Nat) (σ : fv_S) : Prop := fv_gw σ 21 o = Int32.ofNat (qsr c) ∧ (1 ≤ c → c ≤ 4 → fv_gw σ 22 o = Int32.ofNat j) ∧ (c = 3 ∨ c = 4 → fv_gw σ 23 o = q01 (decide (c = 4))) ∧ (any = false → c = 6 → ∀ v, v < 64 → (fv_gw σ 25 o = Int32.ofNat v ↔ u = v)) ∧ c ≤ 6 ∧ j < 99
theorem nb_t {a b : Nat} : Nat.beq a b = true ↔ a = b := by rw [Nat.beq_eq]
theorem nb_f {a b : Nat} (h : a ≠ b) : Nat.beq a b = false := by
  cases hx : Nat.beq a b
  · rfl
  · exact absurd (nb_t.1 hx) h
theorem nl_t {a b : Nat} : Nat.ble a b = true ↔ a ≤ b := by rw [Nat.ble_eq]
theorem nl_f {a b : Nat} (h : ¬ a ≤ b) : Nat.ble a b = false := by
  cases hx : Nat.ble a b
  · rfl
  · exact absurd (nl_t.1 hx) h
theorem qsr_e {c : Nat} (hc : c ≤ 6) (d : Nat) (hd : d ≤ 6) : Int32.ofNat (qsr c) = Int32.ofNat d ↔ qsr c = d := p_eqN _ _ (by unfold qsr; split <;> omega) (by omega)
theorem x_fit {o c j : Nat} (ho : o < 2) {any : Bool} {u : Nat} {σ : fv_S} (h : xOf o c j any u σ) (hany : any = true ↔ (fv_gi σ 1541 = 0 ∨ (0 : Int32) < fv_gi σ 1563)) (k v : Nat) (hk : k ≤ 14) (hv : v < 64) (hv8 : k = 1 ∨ k = 2 ∨ k = 3 ∨ k = 9 → v < 8) : zX3_isFit (Int32.ofNat o) (Int32.ofNat k) (Int32.ofNat v) σ = fv_ri (q01 (qft c j any u k v)) σ := by
  obtain ⟨h21, h22, h23, h25, hc, hj⟩ := h
  obtain ⟨i1, i2⟩ := p_inN o 2 ho (by omega)
  have ga : ∀ a, fv_ga σ a (Int32.ofNat o) = fv_gw σ a o := fun a => by show fv_gw σ a (Int32.ofNat o).toNatClampNeg = _; rw [i2]
  have s21 : ∀ d, d ≤ 6 → (fv_ga σ 21 (Int32.ofNat o) = Int32.ofNat d ↔ qsr c = d) := fun d hd => by rw [ga, h21]; exact qsr_e hc d hd
  have s22 : 1 ≤ c → c ≤ 4 → ∀ d, d < 200 → (fv_ga σ 22 (Int32.ofNat o) = Int32.ofNat d ↔ j = d) := fun a b d hd => by rw [ga, h22 a b]; exact p_eqN _ _ (by omega) (by omega)
  have b01 : ∀ (P : Prop) [Decidable P] (b : Bool), (b = true ↔ ¬ P) → (if P then fv_ri 0 σ else fv_ri 1 σ) = fv_ri (q01 b) σ := by
    intro P _ b hb
    by_cases c : P
    · rw [if_pos c]
      have : b = false := by
        cases b with
        | false => rfl
        | true => exact absurd c (hb.1 rfl)
      rw [this]; rfl
    · rw [if_neg c, hb.2 c]; rfl
  have nm : ∀ (d r : Nat), 1 ≤ d → d ≤ 3 → r < 200 → (if ¬ fv_ga σ 21 (Int32.ofNat o) = Int32.ofNat d then fv_ri 0 σ else (if fv_in (Int32.ofNat o) 2 then (if ¬ fv_ga σ 22 (Int32.ofNat o) = Int32.ofNat r then fv_ri 0 σ else fv_ri 1 σ) else none)) = fv_ri (q01 (decide (qsr c = d ∧ j = r))) σ := by
    intro d r h1 h3 hr
    by_cases cs : qsr c = d
    · have hc14 : 1 ≤ c ∧ c ≤ 4 := by unfold qsr at cs; split at cs <;> omega
      rw [if_neg (not_not_intro ((s21 d (by omega)).2 cs)), if_pos i1]
      refine b01 _ _ ?_
      rw [decide_eq_true_iff, Classical.not_not, s22 hc14.1 hc14.2 r hr]
      exact ⟨fun e => e.2, fun e => ⟨cs, e⟩⟩
    · rw [if_pos (fun e => cs ((s21 d (by omega)).1 e)), decide_eq_false (fun e => cs e.1)]; rfl
  have kk : k = 0 ∨ k = 1 ∨ k = 2 ∨ k = 3 ∨ k = 4 ∨ k = 5 ∨ k = 6 ∨ k = 7 ∨ k = 8 ∨ k = 9 ∨ k = 10 ∨ k = 11 ∨ k = 12 ∨ k = 13 ∨ k = 14 := by omega
  have e365 : zX3_isFit_365 (fv_ga σ 21 (Int32.ofNat o)) σ = fv_ri (q01 (Nat.beq c 6)) σ := by
    unfold zX3_isFit_365
    refine b01 _ _ ?_
    rw [Classical.not_not, show (fv_ga σ 21 (Int32.ofNat o) = 5 ↔ qsr c = 5) from s21 5 (by omega)]
    rw [Nat.beq_eq]; unfold qsr; split <;> omega
  have e226 : zX3_isFit_226 (fv_ga σ 21 (Int32.ofNat o)) σ = fv_ri (q01 (Nat.beq c 5)) σ := by
    unfold zX3_isFit_226
    refine b01 _ _ ?_
    rw [Classical.not_not, show (fv_ga σ 21 (Int32.ofNat o) = 4 ↔ qsr c = 4) from s21 4 (by omega)]
    rw [Nat.beq_eq]; unfold qsr; split <;> omega
  have e329 : zX3_isFit_329 (Int32.ofNat o) (Int32.ofNat v) (fv_ga σ 21 (Int32.ofNat o)) σ = fv_ri (q01 (Nat.beq c 6 && (any || Nat.beq u v))) σ := by
    unfold zX3_isFit_329
    have e5 : fv_ga σ 21 (Int32.ofNat o) = 5 ↔ c = 6 := (show (fv_ga σ 21 (Int32.ofNat o) = 5 ↔ qsr c = 5) from s21 5 (by omega)).trans (by unfold qsr; split <;> omega)
    by_cases c6 : c = 6
    · rw [if_neg (not_not_intro (e5.2 c6)), nb_t.2 c6]
      cases ha : any with
      | true =>
        rcases hany.1 ha with h | h
        · rw [if_pos h]; rfl
        · by_cases h0 : fv_gi σ 1541 = 0
          · rw [if_pos h0]; rfl
          · rw [if_neg h0, if_pos h]; rfl
      | false =>
        have na : ¬ (fv_gi σ 1541 = 0 ∨ (0 : Int32) < fv_gi σ 1563) := fun e => by have := hany.2 e; rw [ha] at this; exact absurd this (by decide)
        rw [if_neg (fun e => na (Or.inl e)), if_neg (fun e => na (Or.inr e)), if_pos i1, ga]
        show _ = fv_ri (q01 (Nat.beq u v)) σ
        refine b01 _ _ ?_
        rw [Classical.not_not, h25 ha c6 v hv, Nat.beq_eq]
    · rw [if_pos (fun e => c6 (e5.1 e)), nb_f c6]; rfl
  have dq : ∀ (P : Prop) [Decidable P] (b : Bool), (b = true ↔ P) → fv_ri (q01 (decide P)) σ = fv_ri (q01 b) σ := by
    intro P _ b hb
    by_cases c : P
    · rw [decide_eq_true c, hb.2 c]
    · rw [decide_eq_false c]
      have : b = false := by
        cases b with
        | false => rfl
        | true => exact absurd (hb.1 rfl) c
      rw [this]
  unfold zX3_isFit
  rw [if_pos i1]
  rcases kk with rfl | rfl | rfl | rfl | rfl | rfl | rfl | rfl | rfl | rfl | rfl | rfl | rfl | rfl | rfl
  · rw [if_pos (show Int32.ofNat 0 = 0 from rfl)]
    show _ = fv_ri (q01 (Nat.beq c 0)) σ
    refine b01 _ _ ?_
    rw [Classical.not_not, show (fv_ga σ 21 (Int32.ofNat o) = 0 ↔ qsr c = 0) from s21 0 (by omega), Nat.beq_eq]
    unfold qsr; split <;> omega
  · have v8 := hv8 (by omega)
    obtain ⟨n1, n2, n3, n4, n5, n6, n7, n8⟩ := k_xn v v8
    rw [if_neg (show ¬ Int32.ofNat 1 = 0 by decide), if_pos (show Int32.ofNat 1 = 1 from rfl)]
    show _ = fv_ri (q01 (bif Nat.beq v 6 then Nat.beq c 2 && Nat.beq j 88 else Nat.beq c 1 && Nat.beq j (qrg v))) σ
    by_cases c6 : v = 6
    · rw [if_neg (show ¬ ¬ Int32.ofNat v = 6 by rw [c6]; decide), show Nat.beq v 6 = true by rw [c6]; rfl]
      refine (nm 2 88 (by omega) (by omega) (by omega)).trans (dq _ _ ?_)
      show (Nat.beq c 2 && Nat.beq j 88) = true ↔ _
      rw [Bool.and_eq_true, Nat.beq_eq, Nat.beq_eq]
      unfold qsr; split <;> omega
    · rw [if_pos (show ¬ Int32.ofNat v = 6 from fun e => c6 ((p_eqN v 6 (by omega) (by omega)).1 e)), nb_f c6, p_Kv (K_xr _) σ, n1, fv_bi_ri]
      refine (nm 1 (qrg v) (by omega) (by omega) (by omega)).trans (dq _ _ ?_)
      show (Nat.beq c 1 && Nat.beq j (qrg v)) = true ↔ _
      rw [Bool.and_eq_true, Nat.beq_eq, Nat.beq_eq]
      unfold qsr; split <;> omega
  · have v8 := hv8 (by omega)
    obtain ⟨n1, n2, n3, n4, n5, n6, n7, n8⟩ := k_xn v v8
    rw [if_neg (show ¬ Int32.ofNat 2 = 0 by decide), if_neg (show ¬ Int32.ofNat 2 = 1 by decide), if_pos (show Int32.ofNat 2 = 2 from rfl), p_Kv (K_xp _) σ, n2, fv_bi_ri]
    refine (nm 1 (qpr v) (by omega) (by omega) (by omega)).trans (dq _ _ ?_)
    show (Nat.beq c 1 && Nat.beq j (qpr v)) = true ↔ _
    rw [Bool.and_eq_true, Nat.beq_eq, Nat.beq_eq]
    unfold qsr; split <;> omega
  · have v8 := hv8 (by omega)
    obtain ⟨n1, n2, n3, n4, n5, n6, n7, n8⟩ := k_xn v v8
    rw [if_neg (show ¬ Int32.ofNat 3 = 0 by decide), if_neg (show ¬ Int32.ofNat 3 = 1 by decide), if_neg (show ¬ Int32.ofNat 3 = 2 by decide), if_pos (show Int32.ofNat 3 = 3 from rfl), p_Kv (K_xc _) σ, n3, fv_bi_ri]
    refine (nm 1 (qcn v) (by omega) (by omega) (by omega)).trans (dq _ _ ?_)
    show (Nat.beq c 1 && Nat.beq j (qcn v)) = true ↔ _
    rw [Bool.and_eq_true, Nat.beq_eq, Nat.beq_eq]
    unfold qsr; split <;> omega
  · exact e365
  · exact e365
  · exact e365
  · exact e226
  · exact e226
  · have v8 := hv8 (by omega)
    obtain ⟨n1, n2, n3, n4, n5, n6, n7, n8⟩ := k_xn v v8
    rw [if_neg (show ¬ Int32.ofNat 9 = 0 by decide), if_neg (show ¬ Int32.ofNat 9 = 1 by decide), if_neg (show ¬ Int32.ofNat 9 = 2 by decide), if_neg (show ¬ Int32.ofNat 9 = 3 by decide), if_neg (show ¬ Int32.ofNat 9 = 4 by decide), if_neg (show ¬ Int32.ofNat 9 = 5 by decide), if_neg (show ¬ Int32.ofNat 9 = 6 by decide), if_neg (show ¬ Int32.ofNat 9 = 7 by decide), if_neg (show ¬ Int32.ofNat 9 = 8 by decide), if_pos (show Int32.ofNat 9 = 9 from rfl)]
    show _ = fv_ri (q01 (bif Nat.ble 4 v then Nat.beq c 3 && Nat.beq j (85 + v) else Nat.beq c 2 && Nat.beq j (qan v))) σ
    by_cases c4 : 4 ≤ v
    · rw [if_pos (show (4 : Int32) ≤ Int32.ofNat v from (p_leN 4 v (by omega) (by omega)).2 c4), nl_t.2 c4, if_pos i1, show (85 : Int32) + Int32.ofNat v = Int32.ofNat (85 + v) from (Int32.ofNat_add 85 v).symm]
      show _ = fv_ri (q01 (Nat.beq c 3 && Nat.beq j (85 + v))) σ
      by_cases cs : qsr c = 3
      · have hc34 : c = 3 ∨ c = 4 := by unfold qsr at cs; split at cs <;> omega
        rw [if_neg (show ¬ ¬ fv_ga σ 21 (Int32.ofNat o) = 3 from not_not_intro ((s21 3 (by omega)).2 cs)), ga 23, h23 hc34]
        rcases hc34 with e | e
        · subst e
          rw [decide_eq_false (by omega), if_neg (show ¬ ¬ q01 false = 0 by decide), if_pos i1]
          refine b01 _ _ ?_
          rw [Classical.not_not, s22 (by omega) (by omega) _ (by omega)]
          show (Nat.beq j (85 + v)) = true ↔ _
          rw [Nat.beq_eq]
        · subst e
          rw [decide_eq_true rfl, if_pos (show ¬ q01 true = 0 by decide)]; rfl
      · rw [if_pos (show ¬ fv_ga σ 21 (Int32.ofNat o) = 3 from fun e => cs ((s21 3 (by omega)).1 e)), nb_f (show c ≠ 3 from fun e => cs (by rw [e]; rfl))]; rfl
    · rw [if_neg (show ¬ (4 : Int32) ≤ Int32.ofNat v from fun e => c4 ((p_leN 4 v (by omega) (by omega)).1 e)), nl_f c4, p_Kv (K_xa _) σ, n4, fv_bi_ri]
      refine (nm 2 (qan v) (by omega) (by omega) (by omega)).trans (dq _ _ ?_)
      show (Nat.beq c 2 && Nat.beq j (qan v)) = true ↔ _
      rw [Bool.and_eq_true, Nat.beq_eq, Nat.beq_eq]
      unfold qsr; split <;> omega
  · rw [if_neg (show ¬ Int32.ofNat 10 = 0 by decide), if_neg (show ¬ Int32.ofNat 10 = 1 by decide), if_neg (show ¬ Int32.ofNat 10 = 2 by decide), if_neg (show ¬ Int32.ofNat 10 = 3 by decide), if_neg (show ¬ Int32.ofNat 10 = 4 by decide), if_neg (show ¬ Int32.ofNat 10 = 5 by decide), if_neg (show ¬ Int32.ofNat 10 = 6 by decide), if_neg (show ¬ Int32.ofNat 10 = 7 by decide), if_neg (show ¬ Int32.ofNat 10 = 8 by decide), if_neg (show ¬ Int32.ofNat 10 = 9 by decide), if_pos (show Int32.ofNat 10 = 10 from rfl), show (90 : Int32) + Int32.ofNat v = Int32.ofNat (90 + v) from (Int32.ofNat_add 90 v).symm]
    refine (nm 3 (90 + v) (by omega) (by omega) (by omega)).trans (dq _ _ ?_)
    show ((Nat.beq c 3 || Nat.beq c 4) && Nat.beq j (90 + v)) = true ↔ _
    rw [Bool.and_eq_true, Bool.or_eq_true, Nat.beq_eq, Nat.beq_eq, Nat.beq_eq]
    unfold qsr; split <;> omega
  · exact e329
  · exact e329
  · exact e329
  · rw [if_neg (show ¬ Int32.ofNat 14 = 0 by decide), if_neg (show ¬ Int32.ofNat 14 = 1 by decide), if_neg (show ¬ Int32.ofNat 14 = 2 by decide), if_neg (show ¬ Int32.ofNat 14 = 3 by decide), if_neg (show ¬ Int32.ofNat 14 = 4 by decide), if_neg (show ¬ Int32.ofNat 14 = 5 by decide), if_neg (show ¬ Int32.ofNat 14 = 6 by decide), if_neg (show ¬ Int32.ofNat 14 = 7 by decide), if_neg (show ¬ Int32.ofNat 14 = 8 by decide), if_neg (show ¬ Int32.ofNat 14 = 9 by decide), if_neg (show ¬ Int32.ofNat 14 = 10 by decide), if_neg (show ¬ Int32.ofNat 14 = 11 by decide), if_neg (show ¬ Int32.ofNat 14 = 12 by decide), if_neg (show ¬ Int32.ofNat 14 = 13 by decide), if_pos (show Int32.ofNat 14 = 14 from rfl), show (82 : Int32) + Int32.ofNat v = Int32.ofNat (82 + v) from (Int32.ofNat_add 82 v).symm]
    refine (nm 1 (82 + v) (by omega) (by omega) (by omega)).trans (dq _ _ ?_)
    show (Nat.beq c 1 && Nat.beq j (82 + v)) = true ↔ _
    rw [Bool.and_eq_true, Nat.beq_eq, Nat.beq_eq]
    unfold qsr; split <;> omega
