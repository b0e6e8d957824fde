set_option maxRecDepth 100000
set_option maxHeartbeats 4000000
/-! The plain law: the class looks for a form. -/
def qfp (w c0 j0 c1 j1 : Nat) (any : Bool) (u : Nat) (m : p_F) : Bool := Nat.beq m.2.2.1 w && (qft c0 j0 any u m.2.2.2.1 m.2.2.2.2.1 && qft c1 j1 any u m.2.2.2.2.2.1 m.2.2.2.2.2.2)
theorem t_ok : ∀ k, k < 696 → (p_at k).2.2.1 < 67 ∧ (p_at k).2.2.2.1 ≤ 14 ∧ (p_at k).2.2.2.2.1 < 64 ∧ ((p_at k).2.2.2.1 = 1 ∨ (p_at k).2.2.2.1 = 2 ∨ (p_at k).2.2.2.1 = 3 ∨ (p_at k).2.2.2.1 = 9 → (p_at k).2.2.2.2.1 < 8) ∧ (p_at k).2.2.2.2.2.1 ≤ 14 ∧ (p_at k).2.2.2.2.2.2 < 64 ∧ ((p_at k).2.2.2.2.2.1 = 1 ∨ (p_at k).2.2.2.2.2.1 = 2 ∨ (p_at k).2.2.2.2.2.1 = 3 ∨ (p_at k).2.2.2.2.2.1 = 9 → (p_at k).2.2.2.2.2.2 < 8) := by decide +kernel
theorem t_drop {k : Nat} (h : k < 696) : p_TL.drop k = p_at k :: p_TL.drop (k + 1) := by
  have hl : k < p_TL.length := by rw [t_len]; exact h
  rw [List.drop_eq_getElem_cons hl]
  unfold p_at; rw [t_get k hl]
theorem qft_u {c j k v : Nat} (h : k ≤ 10 ∨ k = 14) (any any' : Bool) (u u' : Nat) : qft c j any u k v = qft c j any' u' k v := by
  have n11 : Nat.beq k 11 = false := nb_f (by omega)
  have n12 : Nat.beq k 12 = false := nb_f (by omega)
  have n13 : Nat.beq k 13 = false := nb_f (by omega)
  unfold qft
  rw [n11, n12, n13]; rfl
theorem t_k1 : ∀ k, k < 696 → (p_at k).2.2.2.2.2.1 ≤ 10 ∨ (p_at k).2.2.2.2.2.1 = 14 := by decide +kernel
theorem x_form {c0 j0 c1 j1 : Nat} {any : Bool} {u u1 : Nat} {σ : fv_S} (hF : pFm σ) (h0 : xOf 0 c0 j0 any u σ) (h1 : xOf 1 c1 j1 any u1 σ) (hany : any = true ↔ (fv_gi σ 1541 = 0 ∨ (0 : Int32) < fv_gi σ 1563)) {N : Nat} (hN : 7000 ≤ N) (w : Nat) (hw : w < 67) :
    ∃ r, zX3_form N (Int32.ofNat w) σ = fv_ri (qxi r 696) σ ∧ ((r < 696 ∧ p_TL.find? (qfp w c0 j0 c1 j1 any u) = some (p_at r)) ∨ (r = 696 ∧ p_TL.find? (qfp w c0 j0 c1 j1 any u) = none)) := by
  have lp : ∀ (d k m : Nat), 696 - k = d → k ≤ 696 → d + 1 ≤ m → ∃ r, zX3_form_2 N m (Int32.ofNat w) (Int32.ofNat k) σ = fv_ri (qxi r 696) σ ∧ ((r < 696 ∧ (p_TL.drop k).find? (qfp w c0 j0 c1 j1 any u) = some (p_at r)) ∨ (r = 696 ∧ (p_TL.drop k).find? (qfp w c0 j0 c1 j1 any u) = none)) := by
    intro d
    induction d with
    | zero =>
      intro k m e hk hm
      obtain ⟨m, rfl⟩ : ∃ j, m = j + 1 := ⟨m - 1, by omega⟩
      have : k = 696 := by omega
      subst this
      refine ⟨696, ?_, Or.inr ⟨rfl, ?_⟩⟩
      · show zX3_form_2_b _ _ _ _ _ = _
        unfold zX3_form_2_b zX3_form_84
        rw [hF.1, if_pos (show Int32.ofNat 696 ≤ Int32.ofNat 696 by decide), if_pos (show Int32.ofNat 696 ≤ Int32.ofNat 696 by decide)]; rfl
      · rw [List.drop_eq_nil_of_le (by rw [t_len]; exact Nat.le_refl _)]; rfl
    | succ d ih =>
      intro k m e hk hm
      obtain ⟨m, rfl⟩ : ∃ j, m = j + 1 := ⟨m - 1, by omega⟩
      have hk6 : k < 696 := by omega
      obtain ⟨i1, i2⟩ := p_inN k 900 (by omega) (by omega)
      obtain ⟨a9, a10, a4, a5, a6, a7, a8⟩ := pFm_at hF hk6
      obtain ⟨o1, o2, o3, o4, o5, o6, o7⟩ := t_ok k hk6
      have ga : ∀ a, fv_ga σ a (Int32.ofNat k) = fv_gw σ a k := fun a => by show fv_gw σ a (Int32.ofNat k).toNatClampNeg = _; rw [i2]
      have f0 := x_fit (o := 0) (by omega) h0 hany (p_at k).2.2.2.1 (p_at k).2.2.2.2.1 o2 o3 o4
      have f1 := x_fit (o := 1) (by omega) h1 hany (p_at k).2.2.2.2.2.1 (p_at k).2.2.2.2.2.2 o5 o6 o7
      rw [qft_u (t_k1 k hk6) any any u1 u] at f1
      have n6 : ¬ Int32.ofNat 696 ≤ Int32.ofNat k := fun e => by have := (p_leN 696 k (by omega) (by omega)).1 e; omega
      have ew : fv_ga σ 4 (Int32.ofNat k) = Int32.ofNat w ↔ (p_at k).2.2.1 = w := by
        rw [ga, a4]; exact p_eqN _ _ (by omega) (by omega)
      have st : zX3_form_2 N (m + 1) (Int32.ofNat w) (Int32.ofNat k) σ = if qfp w c0 j0 c1 j1 any u (p_at k) = true then fv_ri (Int32.ofNat k) σ else zX3_form_2 N m (Int32.ofNat w) (Int32.ofNat (k + 1)) σ := by
        show zX3_form_2_b _ _ _ _ _ = _
        unfold zX3_form_2_b zX3_form_84 qfp
        rw [hF.1, if_neg n6, if_pos i1, p_sucN]
        by_cases cw : (p_at k).2.2.1 = w
        · rw [if_neg (not_not_intro (ew.2 cw)), if_pos i1, if_pos i1, ga 5, ga 6, a5, a6, nb_t.2 cw]
          show fv_bi (zX3_isFit (Int32.ofNat 0) (Int32.ofNat (p_at k).2.2.2.1) (Int32.ofNat (p_at k).2.2.2.2.1) σ) _ _ = _
          rw [f0, fv_bi_ri]
          cases qft c0 j0 any u (p_at k).2.2.2.1 (p_at k).2.2.2.2.1 with
          | false => rw [if_pos (show q01 false = 0 by decide), if_neg (by simp)]
          | true =>
            rw [if_neg (show ¬ q01 true = 0 by decide), if_pos i1, if_pos i1, ga 7, ga 8, a7, a8]
            show fv_bi (zX3_isFit (Int32.ofNat 1) (Int32.ofNat (p_at k).2.2.2.2.2.1) (Int32.ofNat (p_at k).2.2.2.2.2.2) σ) _ _ = _
            rw [f1, fv_bi_ri]
            cases qft c1 j1 any u (p_at k).2.2.2.2.2.1 (p_at k).2.2.2.2.2.2 with
            | false => rw [if_neg (show ¬ ¬ q01 false = 0 by decide), if_neg (by simp)]
            | true => rw [if_pos (show ¬ q01 true = 0 by decide), hF.1, if_neg n6, if_pos (by decide)]
        · rw [if_pos (fun e => cw (ew.1 e)), nb_f cw, if_neg (by simp)]
      rw [st, t_drop hk6, List.find?_cons]
      cases hq : qfp w c0 j0 c1 j1 any u (p_at k) with
      | true =>
        rw [if_pos rfl]
        exact ⟨k, by unfold qxi; rw [if_pos hk6], Or.inl ⟨hk6, rfl⟩⟩
      | false =>
        rw [if_neg (by decide)]
        exact ih (k + 1) m (by omega) (by omega) (by omega)
  unfold zX3_form
  have := lp 696 0 N rfl (by omega) (by omega)
  rw [List.drop_zero] at this
  exact this
