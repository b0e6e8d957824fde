set_option maxRecDepth 100000
set_option maxHeartbeats 4000000
/-! The plain law: what stands at an address is written alike. -/
theorem k_db : p_nm 99 = p_say 4473376 ∧ p_asc (p_say 4473376) = true := by decide +kernel
theorem z_e0 {n : Nat} (h : n = 0) : Int32.ofNat n = 0 := by rw [h]; rfl
theorem z_n0 {n : Nat} (hn : n < 256) (h : ¬ n = 0) : ¬ Int32.ofNat n = 0 := fun e => h ((p_ofeq (v := (0 : Int32)) hn 0 (by omega) rfl).1 e)
theorem z_e10 {n : Nat} (h : n = 10) : Int32.ofNat n = 10 := by rw [h]; rfl
theorem z_n10 {n : Nat} (hn : n < 256) (h : ¬ n = 10) : ¬ Int32.ofNat n = 10 := fun e => h ((p_ofeq (v := (10 : Int32)) hn 10 (by omega) rfl).1 e)
theorem x_beh {k : Nat} (hk : k < 15) (σ : fv_S) : zX2_behind (Int32.ofNat k) σ = fv_ri (Int32.ofNat (p_bh k)) σ := by
  have : ∀ k, k < 15 → p_v (zX2_behind (Int32.ofNat k) p_σd) = Int32.ofNat (p_bh k) := by decide +kernel
  rw [← this k hk]
  refine p_Kv (f := fun σ => zX2_behind (Int32.ofNat k) σ) ?_ σ
  unfold zX2_behind
  repeat (first | exact p_Kr _ | apply p_Ki)
theorem x_size {σ : fv_S} (h : pFm σ) {f : Nat} (hf : f < 696) (h1 : (p_at f).1 < 7) (ha : (p_at f).2.2.2.1 < 15) (hb : (p_at f).2.2.2.2.2.1 < 15) : zX2_size (Int32.ofNat f) σ = fv_ri (Int32.ofNat (p_sz (p_at f))) σ := by
  obtain ⟨a1, a2, a3, a4, a5, a6, a7⟩ := pFm_at h hf
  obtain ⟨i1, i2⟩ := p_inN f 900 (by omega) (by omega)
  have g9 : fv_ga σ 9 (Int32.ofNat f) = Int32.ofNat (p_at f).1 := by show fv_gw σ 9 (Int32.ofNat f).toNatClampNeg = _; rw [i2]; exact a1
  have g5 : fv_ga σ 5 (Int32.ofNat f) = Int32.ofNat (p_at f).2.2.2.1 := by show fv_gw σ 5 (Int32.ofNat f).toNatClampNeg = _; rw [i2]; exact a4
  have g7 : fv_ga σ 7 (Int32.ofNat f) = Int32.ofNat (p_at f).2.2.2.2.2.1 := by show fv_gw σ 7 (Int32.ofNat f).toNatClampNeg = _; rw [i2]; exact a6
  have hi : zX2_hasIndex (Int32.ofNat f) σ = fv_ri (Int32.ofNat (if (p_at f).2.2.2.1 = 10 ∨ (p_at f).2.2.2.2.2.1 = 10 then 1 else 0)) σ := by
    unfold zX2_hasIndex
    rw [if_pos i1, if_pos i1, g5, g7]
    by_cases c1 : (p_at f).2.2.2.1 = 10
    · rw [if_pos (z_e10 c1), if_pos (Or.inl c1)]; rfl
    · rw [if_neg (z_n10 (by omega) c1)]
      by_cases c2 : (p_at f).2.2.2.2.2.1 = 10
      · rw [if_neg (not_not_intro (z_e10 c2)), if_pos (Or.inr c2)]; rfl
      · rw [if_pos (z_n10 (by omega) c2), if_neg (fun e => by rcases e with e | e; exact c1 e; exact c2 e)]; rfl
  have k25 : ∀ s : Nat, zX2_size_25 (Int32.ofNat f) (Int32.ofNat s) σ = fv_ri (Int32.ofNat (s + (if (p_at f).2.2.2.1 = 10 ∨ (p_at f).2.2.2.2.2.1 = 10 then 1 else 0) + p_bh (p_at f).2.2.2.1 + p_bh (p_at f).2.2.2.2.2.1)) σ := by
    intro s
    have k40 : ∀ t : Nat, zX2_size_40 (Int32.ofNat f) (Int32.ofNat s) (Int32.ofNat t) σ = fv_ri (Int32.ofNat (s + t + p_bh (p_at f).2.2.2.1 + p_bh (p_at f).2.2.2.2.2.1)) σ := by
      intro t
      unfold zX2_size_40
      rw [if_pos i1, g5, x_beh ha, fv_bi_ri, if_pos i1, g7, x_beh hb, fv_bi_ri, Int32.ofNat_add, Int32.ofNat_add, Int32.ofNat_add]
    unfold zX2_size_25
    rw [hi, fv_bi_ri]
    by_cases c : (p_at f).2.2.2.1 = 10 ∨ (p_at f).2.2.2.2.2.1 = 10
    · rw [if_pos c, if_neg (by decide)]; exact k40 1
    · rw [if_neg c, if_pos (by decide)]; exact k40 0
  unfold zX2_size p_sz
  rw [if_pos i1, g9]
  by_cases c0 : (p_at f).1 = 0
  · rw [if_neg (not_not_intro (z_e0 c0)), if_pos c0]; exact k25 1
  · rw [if_pos (z_n0 (by omega) c0), if_neg c0]
    by_cases c5 : (p_at f).1 < 5
    · rw [if_neg (show ¬ (5 : Int32) ≤ Int32.ofNat (p_at f).1 from fun e => by have := (p_leN 5 _ (by omega) (by omega)).1 e; omega), if_pos c5]; exact k25 2
    · rw [if_pos (show (5 : Int32) ≤ Int32.ofNat (p_at f).1 from (p_leN 5 _ (by omega) (by omega)).2 (by omega)), if_neg c5]; exact k25 3
/-- signs of a distance -/
def p_sd (n : Nat) : List Nat := if n < 128 then 43 :: p_dN n else 45 :: p_dN (256 - n)
theorem p_hD_of {E : Nat → List Nat} {n : Nat} (hn : n < 256) (hE : E 3 = p_sd n) : p_hD E (p_se (Int32.ofNat n)) := by
  have k : ∀ n, n < 256 → (n < 128 ∧ p_se (Int32.ofNat n) = Int32.ofNat n) ∨ (¬ n < 128 ∧ p_se (Int32.ofNat n) = - Int32.ofNat (256 - n) ∧ ¬ (0 : Int32) ≤ p_se (Int32.ofNat n)) := by decide +kernel
  unfold p_sd at hE
  rcases k n hn with ⟨c, e⟩ | ⟨c, e, e2⟩
  · rw [if_pos c] at hE
    exact ⟨n, hn, Or.inl ⟨e, hE⟩⟩
  · rw [if_neg c] at hE
    exact ⟨256 - n, by omega, Or.inr ⟨e, e2, hE⟩⟩
theorem p_rl (E : Nat → List Nat) (h0 : (E 0).length ≤ 5) (h1 : (E 1).length ≤ 3) (h2 : (E 2).length ≤ 5) (h3 : (E 3).length ≤ 4) : ∀ t : List Nat, (∀ c, c ∈ t → c < 1004) → (p_ren E t).length ≤ p_ml t := by
  intro t
  induction t with
  | nil => intro _; exact Nat.le_refl 0
  | cons c r ih =>
    intro hc
    have c4 := hc c (by simp)
    have := ih (fun d hd => hc d (by simp [hd]))
    show ((if c < 1000 then [c] else E (c - 1000)) ++ p_ren E r).length ≤ p_wt c + p_ml r
    rw [List.length_append]
    unfold p_wt
    by_cases c1 : c < 1000
    · rw [if_pos c1, if_pos c1]; simp only [List.length_cons, List.length_nil]; omega
    · rw [if_neg c1, if_neg c1]
      have : c = 1000 ∨ c = 1001 ∨ c = 1002 ∨ c = 1003 := by omega
      rcases this with rfl | rfl | rfl | rfl
      · show (E 0).length + _ ≤ 5 + _; omega
      · show (E 1).length + _ ≤ 3 + _; omega
      · show (E 2).length + _ ≤ 5 + _; omega
      · show (E 3).length + _ ≤ 4 + _; omega
/-- a form is written -/
theorem wx_f {σ0 : fv_S} {E : Nat → List Nat} (N : Nat) (hF : pFm σ0) {f : Nat} (hf : f < 696) (hw : (p_at f).2.2.1 < 99) (ka : p_xk (p_at f).2.2.2.1 (p_at f).2.2.2.2.1) (kb : p_xk (p_at f).2.2.2.2.2.1 (p_at f).2.2.2.2.2.2) {num d many : Int32} (na : p_hN E (p_at f).2.2.2.1 num) (nb : p_hN E (p_at f).2.2.2.2.2.1 num) (hd : (p_at f).2.2.2.1 = 10 ∨ (p_at f).2.2.2.2.2.1 = 10 → p_hD E d)
    {σ : fv_S} {l : List Nat} (hs : pSx σ0 σ) (hW : pWx σ l) (hl : l.length + (p_ren E (p_tX (p_at f))).length ≤ 64) : ∃ σ', zX6_write_30_171 (N + 20) (Int32.ofNat f) many d (Int32.ofNat (p_at f).2.2.2.1) (Int32.ofNat (p_at f).2.2.2.2.2.1) num σ = fv_ri many σ' ∧ pSx σ0 σ' ∧ pWx σ' (l ++ p_ren E (p_tX (p_at f))) := by
  obtain ⟨a1, a2, a3, a4, a5, a6, a7⟩ := pFm_at hF hf
  obtain ⟨i1, i2⟩ := p_inN f 900 (by omega) (by omega)
  have g : ∀ {σ : fv_S} (k : Nat), pSx σ0 σ → k ≠ 31 → fv_ga σ k (Int32.ofNat f) = fv_gw σ0 k f := by
    intro σ k hs hk
    show fv_gw σ k (Int32.ofNat f).toNatClampNeg = _
    rw [i2, hs.2.1 k hk]
  have P2 : ∀ {σ : fv_S} {l : List Nat}, pSx σ0 σ → pWx σ l → l.length + (p_ren E (if (p_at f).2.2.2.2.2.1 = 0 then [] else [44] ++ p_xO (p_at f).2.2.2.2.2.1 (p_at f).2.2.2.2.2.2)).length ≤ 64 → ∃ σ', zX6_write_30_214 (N + 20) (Int32.ofNat f) many d (Int32.ofNat (p_at f).2.2.2.2.2.1) num σ = fv_ri many σ' ∧ pSx σ0 σ' ∧ pWx σ' (l ++ p_ren E (if (p_at f).2.2.2.2.2.1 = 0 then [] else [44] ++ p_xO (p_at f).2.2.2.2.2.1 (p_at f).2.2.2.2.2.2)) := by
    intro σ l hs hW hl
    unfold zX6_write_30_214
    by_cases c : (p_at f).2.2.2.2.2.1 = 0
    · rw [if_pos c] at hl ⊢
      rw [if_pos (z_e0 c)]
      exact ⟨σ, rfl, hs, by show pWx σ (l ++ []); rw [List.append_nil]; exact hW⟩
    · rw [if_neg c] at hl ⊢
      rw [if_neg (z_n0 (by have := kb.1; omega) c)]
      rw [p_ren_app, List.length_append] at hl
      obtain ⟨σ1, x1, s1, w1⟩ := vx_one σ0 E 44 (by omega) σ l hs hW (by omega)
      obtain ⟨σ2, x2, s2, w2⟩ := vx_op σ0 E N kb nb (fun e => hd (Or.inr e)) σ1 _ s1 w1 (by rw [List.length_append]; omega)
      refine ⟨σ2, ?_, s2, ?_⟩
      · rw [show zX6_put_30 44 σ = fv_rv σ1 from x1, fv_bv_rv, if_pos i1, g 8 s1 (by omega), a7]
        rw [show zX6_operand_30 (N + 20) (Int32.ofNat (p_at f).2.2.2.2.2.1) (p_cv (p_at f)).2.2.2.2.2.2 num d σ1 = fv_rv σ2 from x2, fv_bv_rv]
      · rw [p_ren_app, ← List.append_assoc]; exact w2
  unfold p_tX at hl ⊢
  rw [p_ren_app, List.length_append] at hl
  obtain ⟨σ1, x1, s1, w1⟩ := vx_nm σ0 E N _ hw σ l hs hW (by omega)
  have hx1 : zX6_putName_30 (N + 20) (fv_ga σ 4 (Int32.ofNat f)) σ = fv_rv σ1 := by rw [g 4 hs (by omega), a3]; exact x1
  unfold zX6_write_30_171
  rw [if_pos i1, hx1, fv_bv_rv]
  by_cases c : (p_at f).2.2.2.1 = 0
  · rw [if_pos c] at hl ⊢
    rw [if_pos (z_e0 c)]
    obtain ⟨σ2, x2, s2, w2⟩ := P2 s1 w1 (by rw [List.length_append]; omega)
    refine ⟨σ2, x2, s2, ?_⟩
    rw [p_ren_app, ← List.append_assoc]; exact w2
  · rw [if_neg c] at hl ⊢
    rw [if_neg (z_n0 (by have := ka.1; omega) c)]
    rw [p_ren_app, p_ren_app, List.length_append, List.length_append] at hl
    obtain ⟨σ2, x2, s2, w2⟩ := vx_one σ0 E 32 (by omega) σ1 _ s1 w1 (by rw [List.length_append]; omega)
    obtain ⟨σ3, x3, s3, w3⟩ := vx_op σ0 E N ka na (fun e => hd (Or.inl e)) σ2 _ s2 w2 (by rw [List.length_append, List.length_append]; omega)
    obtain ⟨σ4, x4, s4, w4⟩ := P2 s3 w3 (by rw [List.length_append, List.length_append, List.length_append]; omega)
    refine ⟨σ4, ?_, s4, ?_⟩
    · rw [show zX6_put_30 32 σ1 = fv_rv σ2 from x2, fv_bv_rv, if_pos i1, g 6 s2 (by omega), a5]
      rw [show zX6_operand_30 (N + 20) (Int32.ofNat (p_at f).2.2.2.1) (p_cv (p_at f)).2.2.2.2.1 num d σ2 = fv_rv σ3 from x3, fv_bv_rv, x4]
    · rw [p_ren_app, p_ren_app, p_ren_app, ← List.append_assoc, ← List.append_assoc, ← List.append_assoc]; exact w4
/-- a form is written -/
theorem wy_f {σ0 : fv_S} {E : Nat → List Nat} (N : Nat) (hF : pFm σ0) {f : Nat} (hf : f < 696) (hw : (p_at f).2.2.1 < 99) (ka : p_xk (p_at f).2.2.2.1 (p_at f).2.2.2.2.1) (kb : p_xk (p_at f).2.2.2.2.2.1 (p_at f).2.2.2.2.2.2) {num d many : Int32} (na : p_hN E (p_at f).2.2.2.1 num) (nb : p_hN E (p_at f).2.2.2.2.2.1 num) (hd : (p_at f).2.2.2.1 = 10 ∨ (p_at f).2.2.2.2.2.1 = 10 → p_hD E d)
    {σ : fv_S} {l : List Nat} (hs : pSy σ0 σ) (hW : pWy σ l) (hl : l.length + (p_ren E (p_tX (p_at f))).length ≤ 64) : ∃ σ', zX6_write_32_171 (N + 20) (Int32.ofNat f) many d (Int32.ofNat (p_at f).2.2.2.1) (Int32.ofNat (p_at f).2.2.2.2.2.1) num σ = fv_ri many σ' ∧ pSy σ0 σ' ∧ pWy σ' (l ++ p_ren E (p_tX (p_at f))) := by
  obtain ⟨a1, a2, a3, a4, a5, a6, a7⟩ := pFm_at hF hf
  obtain ⟨i1, i2⟩ := p_inN f 900 (by omega) (by omega)
  have g : ∀ {σ : fv_S} (k : Nat), pSy σ0 σ → k ≠ 33 → fv_ga σ k (Int32.ofNat f) = fv_gw σ0 k f := by
    intro σ k hs hk
    show fv_gw σ k (Int32.ofNat f).toNatClampNeg = _
    rw [i2, hs.2.1 k hk]
  have P2 : ∀ {σ : fv_S} {l : List Nat}, pSy σ0 σ → pWy σ l → l.length + (p_ren E (if (p_at f).2.2.2.2.2.1 = 0 then [] else [44] ++ p_xO (p_at f).2.2.2.2.2.1 (p_at f).2.2.2.2.2.2)).length ≤ 64 → ∃ σ', zX6_write_32_214 (N + 20) (Int32.ofNat f) many d (Int32.ofNat (p_at f).2.2.2.2.2.1) num σ = fv_ri many σ' ∧ pSy σ0 σ' ∧ pWy σ' (l ++ p_ren E (if (p_at f).2.2.2.2.2.1 = 0 then [] else [44] ++ p_xO (p_at f).2.2.2.2.2.1 (p_at f).2.2.2.2.2.2)) := by
    intro σ l hs hW hl
    unfold zX6_write_32_214
    by_cases c : (p_at f).2.2.2.2.2.1 = 0
    · rw [if_pos c] at hl ⊢
      rw [if_pos (z_e0 c)]
      exact ⟨σ, rfl, hs, by show pWy σ (l ++ []); rw [List.append_nil]; exact hW⟩
    · rw [if_neg c] at hl ⊢
      rw [if_neg (z_n0 (by have := kb.1; omega) c)]
      rw [p_ren_app, List.length_append] at hl
      obtain ⟨σ1, x1, s1, w1⟩ := vy_one σ0 E 44 (by omega) σ l hs hW (by omega)
      obtain ⟨σ2, x2, s2, w2⟩ := vy_op σ0 E N kb nb (fun e => hd (Or.inr e)) σ1 _ s1 w1 (by rw [List.length_append]; omega)
      refine ⟨σ2, ?_, s2, ?_⟩
      · rw [show zX6_put_32 44 σ = fv_rv σ1 from x1, fv_bv_rv, if_pos i1, g 8 s1 (by omega), a7]
        rw [show zX6_operand_32 (N + 20) (Int32.ofNat (p_at f).2.2.2.2.2.1) (p_cv (p_at f)).2.2.2.2.2.2 num d σ1 = fv_rv σ2 from x2, fv_bv_rv]
      · rw [p_ren_app, ← List.append_assoc]; exact w2
  unfold p_tX at hl ⊢
  rw [p_ren_app, List.length_append] at hl
  obtain ⟨σ1, x1, s1, w1⟩ := vy_nm σ0 E N _ hw σ l hs hW (by omega)
  have hx1 : zX6_putName_32 (N + 20) (fv_ga σ 4 (Int32.ofNat f)) σ = fv_rv σ1 := by rw [g 4 hs (by omega), a3]; exact x1
  unfold zX6_write_32_171
  rw [if_pos i1, hx1, fv_bv_rv]
  by_cases c : (p_at f).2.2.2.1 = 0
  · rw [if_pos c] at hl ⊢
    rw [if_pos (z_e0 c)]
    obtain ⟨σ2, x2, s2, w2⟩ := P2 s1 w1 (by rw [List.length_append]; omega)
    refine ⟨σ2, x2, s2, ?_⟩
    rw [p_ren_app, ← List.append_assoc]; exact w2
  · rw [if_neg c] at hl ⊢
    rw [if_neg (z_n0 (by have := ka.1; omega) c)]
    rw [p_ren_app, p_ren_app, List.length_append, List.length_append] at hl
    obtain ⟨σ2, x2, s2, w2⟩ := vy_one σ0 E 32 (by omega) σ1 _ s1 w1 (by rw [List.length_append]; omega)
    obtain ⟨σ3, x3, s3, w3⟩ := vy_op σ0 E N ka na (fun e => hd (Or.inl e)) σ2 _ s2 w2 (by rw [List.length_append, List.length_append]; omega)
    obtain ⟨σ4, x4, s4, w4⟩ := P2 s3 w3 (by rw [List.length_append, List.length_append, List.length_append]; omega)
    refine ⟨σ4, ?_, s4, ?_⟩
    · rw [show zX6_put_32 32 σ1 = fv_rv σ2 from x2, fv_bv_rv, if_pos i1, g 6 s2 (by omega), a5]
      rw [show zX6_operand_32 (N + 20) (Int32.ofNat (p_at f).2.2.2.1) (p_cv (p_at f)).2.2.2.2.1 num d σ2 = fv_rv σ3 from x3, fv_bv_rv, x4]
    · rw [p_ren_app, p_ren_app, p_ren_app, ← List.append_assoc, ← List.append_assoc, ← List.append_assoc]; exact w4
