set_option maxRecDepth 100000
set_option maxHeartbeats 4000000
/-! The plain law: the model's encoding, worked out on a plain state. -/
noncomputable def e_enc (m : Nat) (x1 : Int64) (σ : fv_S) : Option fv_O :=
  fv_bi (zX8_plain x1 (fv_si (fv_si (fv_si σ 32 0) 34 0) 36 (-1))) (fun r4 σ3 =>
    if r4 < 0 then
      if ¬ (lg_cmp x1 (5391700 : Int64)) = 0 then
        if ¬ (Int32.ofNat m) = (1 : Int32) then
          if ¬ (Int32.ofNat m) = (2 : Int32) then
            fv_ri 0 σ3
          else
            fv_bi (zX8_encodeTwo x1 σ3) (fun r6 σ5 =>
              if r6 = 0 then
                fv_ri 0 σ5
              else
                fv_ri 1 σ5) fv_no
        else
          fv_bi (zX8_encodeOne x1 σ3) (fun r8 σ7 =>
            if r8 = 0 ∨ r8 = 1 then fv_ri r8 σ7 else none) fv_no
      else
        if ¬ (Int32.ofNat m) = 0 then
          if ¬ (Int32.ofNat m) = (1 : Int32) then
            fv_ri 0 σ3
          else
            fv_bi (zX8_conditionOf 0 σ3) (fun r11 σ10 =>
              if r11 < 0 then
                fv_ri 0 σ10
              else
                fv_bi (zX8_conditionOf 0 σ10) (fun r13 σ12 =>
                  fv_bi (zX8_give 0 0 ((192 : Int32) + ((8 : Int32) * r13)) σ12) (fun r15 σ14 =>
                    if r15 = 0 then
                      fv_ri 0 σ14
                    else
                      fv_ri 1 σ14) fv_no) fv_no) fv_no
        else
          fv_bi (zX8_give 0 0 201 σ3) (fun r17 σ16 =>
            if r17 = 0 ∨ r17 = 1 then fv_ri r17 σ16 else none) fv_no
    else
      if ¬ (Int32.ofNat m) = 0 then
        fv_ri 0 σ3
      else
        if r4 ≤ (255 : Int32) then
          zX8_encode_53 r4 0 0 σ3
        else
          zX8_encode_53 r4 0 237 σ3) fv_no
theorem eQ_53 {m : Nat} (x4 s1 s2 : Int32) : eQ m (fun τ => zX8_encode_53 x4 s1 s2 τ) := by
  unfold zX8_encode_53
  repeat' (first | with_reducible exact eQ_rc _ | with_reducible exact eQ_gc _ _ _ | with_reducible apply eQ_ic | (with_reducible refine eQ_b ?_ (fun _ => ?_)))
theorem eQ_r {m : Nat} {f : fv_S → Option fv_O} (c : fv_S → fv_S → Prop) (h : ∀ σ τ, eR m σ τ → (f σ = none ∧ f τ = none) ∨ ∃ v σ' τ', f σ = fv_ri v σ' ∧ f τ = fv_ri v τ' ∧ eR m σ' τ' ∧ eF τ τ') : eQ m f := h
theorem eQ_n {m : Nat} {c : Prop} {d : Decidable c} {f g : fv_S → Option fv_O} (hc : ¬ c) (h : eQ m g) : eQ m (fun τ => @ite _ c d (f τ) (g τ)) := by
  have : (fun τ => @ite _ c d (f τ) (g τ)) = g := funext fun τ => if_neg hc
  rw [this]; exact h
theorem eQ_p {m : Nat} {c : Prop} {d : Decidable c} {f g : fv_S → Option fv_O} (hc : c) (h : eQ m f) : eQ m (fun τ => @ite _ c d (f τ) (g τ)) := by
  have : (fun τ => @ite _ c d (f τ) (g τ)) = f := funext fun τ => if_pos hc
  rw [this]; exact h
theorem eQ_enc {m : Nat} (hm : m ≤ 2) (x : Int64) : eQ m (fun τ => e_enc m x τ) := by
  have n1 : ¬ m = 1 → ¬ Int32.ofNat m = 1 := fun h e => h ((p_eqN m 1 (by omega) (by omega)).1 e)
  have n2 : ¬ m = 2 → ¬ Int32.ofNat m = 2 := fun h e => h ((p_eqN m 2 (by omega) (by omega)).1 e)
  have n0 : ¬ m = 0 → ¬ Int32.ofNat m = 0 := fun h e => h ((p_eqN m 0 (by omega) (by omega)).1 e)
  unfold e_enc
  refine eQ_b (f := fun τ => zX8_plain x (fv_si (fv_si (fv_si τ 32 0) 34 0) 36 (-1))) ?_ (fun v => ?_)
  · exact eQ_si (f := fun τ => zX8_plain x (fv_si (fv_si τ 34 0) 36 (-1))) 32 0 (by omega) (eQ_ss (f := fun τ => zX8_plain x τ) 34 36 0 (-1) (by omega) (by omega) (eQ_pl x))
  · have hc : m = 0 ∨ m = 1 ∨ m = 2 := by omega
    refine eQ_ic (eQ_ic ?_ ?_) ?_
    · rcases hc with rfl | rfl | rfl
      · exact eQ_p (by decide) (eQ_p (by decide) (eQ_rc 0))
      · exact eQ_n (by decide) (eQ_b (eQ_encodeOne (Nat.le_refl 1) x) (fun _ => eQ_ic (eQ_rc _) eQ_no))
      · exact eQ_p (by decide) (eQ_n (by decide) (eQ_b (eQ_encodeTwo (by omega) (Nat.le_refl 2) x) (fun _ => eQ_ic (eQ_rc _) (eQ_rc _))))
    · rcases hc with rfl | rfl | rfl
      · refine eQ_n (by decide) (eQ_b (eQ_gc 0 0 201) (fun _ => eQ_ic (eQ_rc _) eQ_no))
      · refine eQ_p (by decide) (eQ_n (by decide) ?_)
        refine eQ_b (eQ_co0 (Nat.le_refl 1)) (fun _ => eQ_ic (eQ_rc _) (eQ_b (eQ_co0 (Nat.le_refl 1)) (fun _ => eQ_b (eQ_gc _ _ _) (fun _ => eQ_ic (eQ_rc _) (eQ_rc _)))))
      · exact eQ_p (by decide) (eQ_p (by decide) (eQ_rc 0))
    · refine eQ_ic (eQ_rc _) (eQ_ic (eQ_53 _ _ _) (eQ_53 _ _ _))
/-- a plain state that holds operands -/
def e_S (m c0 j0 c1 j1 : Nat) : fv_S := (fun k => bif Nat.beq k 28 then Int32.ofNat m else -7, fun _ => 0, fun a i => bif Nat.beq a 8 then Int32.ofNat (bif Nat.beq i 0 then qmk2 c0 j0 else qmk2 c1 j1) else bif Nat.beq a 9 then Int32.ofNat (bif Nat.beq i 0 then qmw c0 j0 else qmw c1 j1) else q01 (decide ((bif Nat.beq i 0 then c0 else c1) = 3)), 0)
/-- what the model makes of a word and its operands -/
noncomputable def e_rs (w m c0 j0 c1 j1 : Nat) : Option fv_O := zX8_encode (qwd (p_nm w)) (e_S m c0 j0 c1 j1)
theorem m_enc {B : Nat → Nat} {n : Nat} (w : Nat) {m c0 j0 c1 j1 pe0 pe1 : Nat} {neg0 neg1 : Bool} {τ : fv_S} (hm : m ≤ 2) (h28 : fv_gi τ 28 = Int32.ofNat m) (h0 : 1 ≤ m → mOd B n 0 c0 j0 neg0 pe0 τ) (h1 : 2 ≤ m → mOd B n 1 c1 j1 neg1 pe1 τ) :
    (e_rs w m c0 j0 c1 j1 = none ∧ zX8_encode (qwd (p_nm w)) τ = none) ∨ ∃ v σ' τ', e_rs w m c0 j0 c1 j1 = fv_ri v σ' ∧ zX8_encode (qwd (p_nm w)) τ = fv_ri v τ' ∧ eF τ τ' ∧ (∀ k, 29 ≤ k → k ≤ 36 → fv_gi σ' k = -7 ∨ fv_gi τ' k = fv_gi σ' k) := by
  have r : eR m (e_S m c0 j0 c1 j1) τ := by
    refine ⟨fun k h1 h2 => Or.inl ?_, h28.symm, fun a ha i hi => ?_⟩
    · show (bif Nat.beq k 28 then Int32.ofNat m else -7) = -7
      rw [nb_f (show k ≠ 28 by omega)]; rfl
    · have hi2 : i = 0 ∨ i = 1 := by omega
      rcases hi2 with rfl | rfl
      · obtain ⟨a1, a2, a3, a4, a5⟩ := h0 (by omega)
        rcases ha with rfl | rfl | rfl
        · rw [a1]; rfl
        · rw [a2]; rfl
        · rw [a3]; rfl
      · obtain ⟨a1, a2, a3, a4, a5⟩ := h1 (by omega)
        rcases ha with rfl | rfl | rfl
        · rw [a1]; rfl
        · rw [a2]; rfl
        · rw [a3]; rfl
  have e1 : zX8_encode (qwd (p_nm w)) (e_S m c0 j0 c1 j1) = e_enc m (qwd (p_nm w)) (e_S m c0 j0 c1 j1) := rfl
  have e2 : zX8_encode (qwd (p_nm w)) τ = e_enc m (qwd (p_nm w)) τ := by unfold zX8_encode e_enc; rw [h28]
  unfold e_rs
  rw [e1, e2]
  rcases eQ_enc hm (qwd (p_nm w)) _ _ r with h | ⟨v, σ', τ', g1, g2, g3, g4⟩
  · exact Or.inl h
  · refine Or.inr ⟨v, σ', τ', g1, g2, g4, fun k hk1 hk2 => ?_⟩
    rcases g3.1 k hk1 hk2 with e | e
    · exact Or.inl e
    · exact Or.inr e.symm
/-- the model takes the word with its operands -/
noncomputable def e_ok (w m c0 j0 c1 j1 : Nat) : Bool := match e_rs w m c0 j0 c1 j1 with
  | some (.inl (some (.inl v)), _) => decide (v = 1)
  | _ => false
def e_D : List (Nat × Nat) := (List.range 24).map (fun i => (1, 75 + i)) ++ [(2, 77), (2, 86), (2, 87), (2, 88), (2, 89), (3, 90), (3, 91), (4, 90), (4, 91), (5, 0), (6, 0)]
