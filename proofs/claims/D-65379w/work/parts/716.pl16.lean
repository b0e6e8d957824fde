set_option maxRecDepth 100000
set_option maxHeartbeats 4000000
/-! The plain law: requests; steps; runs. -/
def p_PM (τ : fv_S) (v : Int32) : fv_S := fv_sa (fv_sa (fv_si τ 75 ((fv_gi τ 75 - 2) &&& 65535)) 13 (((fv_gi τ 75 - 2) &&& 65535) &&& 65535) (v &&& 255)) 13 ((((fv_gi τ 75 - 2) &&& 65535) + 1) &&& 65535) ((v >>> (8 : Int32)) &&& 255)
def p_PX (σ : fv_S) (v : Int32) : fv_S := fv_sa (fv_sa (fv_si σ 4357 ((fv_gi σ 4357 - 2) &&& 65535)) 35 (((fv_gi σ 4357 - 2) &&& 65535) &&& 65535) (p_se v)) 35 ((((fv_gi σ 4357 - 2) &&& 65535) + 1) &&& 65535) (p_se (v >>> (8 : Int32)))
theorem x_push (v : Int32) (σ : fv_S) : zX7_push v σ = fv_rv (p_PX σ v) := by
  unfold zX7_push; rw [x_put16, fv_bv_rv]; rfl
theorem m_push (v : Int32) (τ : fv_S) : zX8_pushTwo v τ = fv_rv (p_PM τ v) := by
  unfold zX8_pushTwo; rw [m_store, fv_bv_rv, m_store, fv_bv_rv]; rfl
theorem e_push {σ0 τ0 σ τ : fv_S} {p q : Int32} (h : pRel σ0 τ0 p q σ τ) (v : Int32) : pRel σ0 τ0 p q (p_PX σ v) (p_PM τ v) := by
  unfold p_PX p_PM
  rw [(g_sp h).1]
  exact e_m (e_m (e_sp h (pw_a _)) _ v) _ _
theorem p_PMc (τ : fv_S) (k : Nat) (w v : Int32) (hk : k ≠ 75) : p_PM (fv_si τ k w) v = fv_si (p_PM τ v) k w := by
  unfold p_PM
  rw [show fv_gi (fv_si τ k w) 75 = fv_gi τ 75 from if_neg (fun e => hk e.symm), s_comm _ k 75 _ _ hk]
  rfl
theorem s_m4 (τ : fv_S) (a b c d : Nat) (u v w x : Int32) (h1 : a ≠ b ∧ a ≠ c ∧ a ≠ d) (h2 : b ≠ c ∧ b ≠ d) (h3 : c ≠ d) : fv_si (fv_si (fv_si (fv_si τ a u) b v) c w) d x = fv_si (fv_si (fv_si (fv_si τ c w) b v) d x) a u := by
  refine Prod.ext (funext fun j => ?_) rfl
  show va_up (va_up (va_up (va_up τ.1 a u) b v) c w) d x j = va_up (va_up (va_up (va_up τ.1 c w) b v) d x) a u j
  unfold va_up
  by_cases e1 : j = a
  · subst e1; simp [h1]
  · by_cases e2 : j = b
    · subst e2; simp [h2, e1]
    · by_cases e3 : j = c
      · subst e3; simp [h3, e1, e2]
      · simp [e1, e2, e3]
theorem s_m5 (τ : fv_S) (a b c d e : Nat) (u v w x y : Int32) (h1 : a ≠ b ∧ a ≠ c ∧ a ≠ d ∧ a ≠ e) (h2 : b ≠ c ∧ b ≠ d ∧ b ≠ e) (h3 : c ≠ d ∧ c ≠ e) (h4 : d ≠ e) : fv_si (fv_si (fv_si (fv_si (fv_si τ a u) b v) c w) d x) e y = fv_si (fv_si (fv_si (fv_si (fv_si τ c w) d x) b v) e y) a u := by
  refine Prod.ext (funext fun j => ?_) rfl
  show va_up (va_up (va_up (va_up (va_up τ.1 a u) b v) c w) d x) e y j = va_up (va_up (va_up (va_up (va_up τ.1 c w) d x) b v) e y) a u j
  unfold va_up
  by_cases e1 : j = a
  · subst e1; simp [h1]
  · by_cases e2 : j = b
    · subst e2; simp [h2, e1]
    · by_cases e3 : j = c
      · subst e3; simp [h3, e1, e2]
      · by_cases e4 : j = d
        · subst e4; simp [h4, e1, e2, e3]
        · simp [e1, e2, e3, e4]
theorem c_take {σ0 τ0 σ τ : fv_S} {p : Int32} (h : pRel σ0 τ0 p p σ τ) (hv : fv_gi τ 82 = 0 → fv_gi τ 83 ≠ 0) : ∃ r σ' τ', pw r ∧ zX7_hasTaken_67 σ = fv_ri 1 σ' ∧ zX8_takeRequest_68 τ = fv_ri 1 τ' ∧ pRel σ0 τ0 r r (fv_si σ' 4370 0) τ' := by
  have gi := g_i h
  have hrf : pb (p_rf τ 1) := pb_or (pb_and _ 128 rfl) (pb_and _ 127 rfl)
  have h1 := e_rf h hrf
  have xr : zX7_refreshBy 1 σ = fv_rv (fv_si σ 4360 (p_rf τ 1)) := by
    unfold p_rf; rw [← show fv_gi σ 4360 = fv_gi τ 73 from gi.2.2.1.2]; rfl
  have mr : zX8_goOn 1 τ = fv_rv (fv_si τ 73 (p_rf τ 1)) := rfl
  have h2 := e_push h1 p
  have hard : fv_gi (p_PX (fv_si σ 4360 (p_rf τ 1)) p) 4369 = fv_gi τ 82 := gi.2.2.2.2.2.2.2.2.1.2
  have pcX : fv_gi (fv_si σ 4360 (p_rf τ 1)) 4358 = p := g_px h1
  have pcM : fv_gi (fv_si τ 73 (p_rf τ 1)) 76 = p := g_pm h1
  have Z : p_bit 0 := Or.inl rfl
  unfold zX7_hasTaken_67 zX8_takeRequest_68
  rw [xr, fv_bv_rv, mr, fv_bv_rv, pcX, x_push, fv_bv_rv, hard, show fv_gi (fv_si τ 73 (p_rf τ 1)) 82 = fv_gi τ 82 from rfl, pcM]
  by_cases e : fv_gi τ 82 = 0
  · rw [if_pos e, if_pos e, m_push, fv_bv_rv]
    have hvec : fv_gi σ 4368 = fv_gi τ 84 := gi.2.2.2.2.2.2.2.1.2 (hv e)
    have hmode : fv_gi (p_PX (fv_si σ 4360 (p_rf τ 1)) p) 4363 = fv_gi τ 79 := gi.2.2.2.2.2.1.2
    generalize hP : p_PX (fv_si σ 4360 (p_rf τ 1)) p = P at h2 hmode
    have hPM : p_PM (fv_si (fv_si (fv_si (fv_si (fv_si τ 73 (p_rf τ 1)) 85 0) 83 0) 77 0) 78 0) p = fv_si (fv_si (fv_si (fv_si (p_PM (fv_si τ 73 (p_rf τ 1)) p) 85 0) 83 0) 77 0) 78 0 := by
      rw [p_PMc _ 78 _ _ (by decide), p_PMc _ 77 _ _ (by decide), p_PMc _ 83 _ _ (by decide), p_PMc _ 85 _ _ (by decide)]
    rw [hPM]
    have e79 : fv_gi (fv_si (fv_si (fv_si (fv_si (p_PM (fv_si τ 73 (p_rf τ 1)) p) 85 0) 83 0) 77 0) 78 0) 79 = fv_gi τ 79 := rfl
    have e72 : fv_gi (fv_si (fv_si (fv_si (fv_si (p_PM (fv_si τ 73 (p_rf τ 1)) p) 85 0) 83 0) 77 0) 78 0) 72 = fv_gi τ 72 := rfl
    have e84 : fv_gi (fv_si (fv_si (fv_si (fv_si (p_PM (fv_si τ 73 (p_rf τ 1)) p) 85 0) 83 0) 77 0) 78 0) 84 = fv_gi τ 84 := rfl
    have x59 : fv_gi P 4359 = fv_gi τ 72 := by rw [← hP]; exact gi.2.1.2
    have x68 : fv_gi P 4368 = fv_gi τ 84 := by rw [← hP]; exact hvec
    have fin : ∀ r, pw r → pRel σ0 τ0 r r (fv_si (fv_si (fv_si (fv_si (fv_si P 4361 0) 4362 0) 4367 0) 4358 r) 4370 0) (fv_si (fv_si (fv_si (fv_si (fv_si (p_PM (fv_si τ 73 (p_rf τ 1)) p) 85 0) 83 0) 77 0) 78 0) 76 r) := by
      intro r hr
      rw [s_m5 _ 85 83 77 78 76 _ _ _ _ _ (by decide) (by decide) (by decide) (by decide)]
      exact e_he (e_pm (e_px (e_pl0 (e_l2 (e_l1 h2 Z) Z)) r) r) Z
    rw [e79, hmode]
    by_cases m0 : fv_gi τ 79 = 0
    · rw [if_neg (not_not_intro m0), if_neg (not_not_intro m0)]
      refine ⟨fv_gi τ 84 &&& 56, _, _, pw_b (pb_and _ 56 rfl), ?_, rfl, fin _ (pw_b (pb_and _ 56 rfl))⟩
      rw [x68]; rfl
    · rw [if_pos m0, if_pos m0]
      by_cases m1 : fv_gi τ 79 = 1
      · rw [if_neg (not_not_intro m1), if_neg (not_not_intro m1)]
        exact ⟨56, _, _, rfl, rfl, rfl, fin _ rfl⟩
      · rw [if_pos m1, if_pos m1, x59, x68, e72, e84]
        have h3 := e_pl0 (e_l2 (e_l1 h2 Z) Z)
        obtain ⟨w, hw, xw, mw⟩ := c_wide h3 (a := (256 : Int32) * fv_gi τ 72 + fv_gi τ 84) (a' := (256 : Int32) * fv_gi τ 72 + fv_gi τ 84) rfl
        have mw' : zX8_wide ((256 : Int32) * fv_gi τ 72 + fv_gi τ 84) (fv_si (fv_si (fv_si (fv_si (p_PM (fv_si τ 73 (p_rf τ 1)) p) 85 0) 83 0) 77 0) 78 0) = fv_ri w (fv_si (fv_si (fv_si (fv_si (p_PM (fv_si τ 73 (p_rf τ 1)) p) 85 0) 83 0) 77 0) 78 0) := by
          unfold zX8_wide at mw ⊢
          rw [m_pk, fv_bi_ri, m_pk, fv_bi_ri] at mw ⊢
          have := congrArg p_v mw
          exact congrArg (fun u => fv_ri u _) this
        rw [xw, fv_bi_ri, mw', fv_bi_ri]
        exact ⟨w, _, _, hw, rfl, rfl, fin w hw⟩
  · rw [if_neg e, if_neg e, m_push, fv_bv_rv]
    refine ⟨102, _, _, rfl, rfl, rfl, ?_⟩
    rw [p_PMc _ 77 _ _ (by decide), p_PMc _ 82 _ _ (by decide), p_PMc _ 85 _ _ (by decide), s_m4 _ 85 82 77 76 _ _ _ _ (by decide) (by decide) (by decide)]
    exact e_he (e_pm (e_px (e_hd (e_l1 h2 Z) Z) 102) 102) Z
theorem c_req {σ0 τ0 σ τ : fv_S} {p : Int32} (h : pRel σ0 τ0 p p σ τ) (wp : pw p) : (zX7_hasTaken σ = fv_ri 0 σ ∧ zX8_takeRequest τ = fv_ri 0 τ) ∨ ∃ r σ' τ', pw r ∧ zX7_hasTaken σ = fv_ri 1 σ' ∧ zX8_takeRequest τ = fv_ri 1 τ' ∧ pRel σ0 τ0 r r (fv_si σ' 4370 0) τ' := by
  have gi := g_i h
  have x67 : fv_gi σ 4367 = fv_gi τ 83 := gi.2.2.2.2.2.2.1.2
  have x61 : fv_gi σ 4361 = fv_gi τ 77 := gi.2.2.2.1.2
  have x70 : fv_gi σ 4370 = fv_gi τ 85 := gi.2.2.2.2.2.2.2.2.2.2
  have x69 : fv_gi σ 4369 = fv_gi τ 82 := gi.2.2.2.2.2.2.2.2.1.2
  have k41 : (fv_gi τ 82 = 0 → fv_gi τ 83 ≠ 0) → ∃ r σ' τ', pw r ∧ zX7_hasTaken_41 σ = fv_ri 1 σ' ∧ zX8_takeRequest_41 τ = fv_ri 1 τ' ∧ pRel σ0 τ0 r r (fv_si σ' 4370 0) τ' := by
    intro hv
    have em := x_m h p
    have ep : fv_ga τ 13 p = p_m τ p := by unfold p_m; rw [show p &&& 65535 = p from wp]
    unfold zX7_hasTaken_41 zX8_takeRequest_41
    rw [g_px h, g_pm h, x_get, em.1, fv_bi_ri, if_pos (p_in65536 wp), ep, g_px h]
    by_cases e : p_m τ p = 118
    · rw [if_neg (not_not_intro e), if_neg (not_not_intro e)]
      exact c_take (e_pm (e_px h ((p + 1) &&& 65535)) ((p + 1) &&& 65535)) hv
    · rw [if_pos e, if_pos e]
      exact c_take h hv
  unfold zX7_hasTaken zX8_takeRequest zX7_hasTaken_26 zX8_takeRequest_26 zX7_hasTaken_27 zX8_takeRequest_27
  rw [x67, x61, x70, x69]
  by_cases a1 : fv_gi τ 82 = 0
  · by_cases a2 : fv_gi τ 83 = 0
    · left
      rw [if_pos a2, if_pos a2, if_neg (not_not_intro a1), if_neg (by decide), if_neg (not_not_intro a1), if_neg (by decide)]
      exact ⟨rfl, rfl⟩
    · rw [if_neg a2, if_neg a2]
      by_cases a3 : fv_gi τ 77 = 1
      · rw [if_neg (not_not_intro a3), if_neg (not_not_intro a3)]
        by_cases a4 : fv_gi τ 85 = 0
        · right
          rw [if_neg (not_not_intro a4), if_neg (not_not_intro a4), if_neg (not_not_intro a1), if_pos (by decide), if_neg (not_not_intro a1), if_pos (by decide)]
          exact k41 (fun _ => a2)
        · left
          rw [if_pos a4, if_pos a4, if_neg (not_not_intro a1), if_neg (by decide), if_neg (not_not_intro a1), if_neg (by decide)]
          exact ⟨rfl, rfl⟩
      · left
        rw [if_pos a3, if_pos a3, if_neg (not_not_intro a1), if_neg (by decide), if_neg (not_not_intro a1), if_neg (by decide)]
        exact ⟨rfl, rfl⟩
  · right
    have k := k41 (fun e => absurd e a1)
    simp only [if_pos a1, ite_self]
    exact k
theorem c_stp {σ τ : fv_S} (n : Nat) (h : pMQ σ τ) (ft : pFT σ) : ∃ w σ' τ', zX7_step (n + 10) σ = fv_ri w σ' ∧ zX8_step (n + 10) τ = fv_ri w τ' ∧ pMQ σ' τ' ∧ pFX σ σ' ∧ pFO τ τ' := by
  obtain ⟨σ0, τ0, p, wp, h⟩ := h
  have h0 := e_scr h (pSF_r τ)
  rcases c_req h0 wp with ⟨x, m⟩ | ⟨r, σ', τ', hr, x, m, rel⟩
  · obtain ⟨w, σ', τ', xi, mi, q⟩ := c_instr n h0 wp ft
    refine ⟨w, σ', τ', ?_, ?_, q⟩
    · unfold zX7_step; rw [x, fv_bi_ri, if_pos rfl, xi, fv_bi_ri]
    · unfold zX8_step; rw [m, fv_bi_ri, if_pos rfl]; exact mi
  · refine ⟨2, _, τ', ?_, ?_, ⟨_, _, r, hr, rel⟩, g_fx rel, pFO_of (pSF_r τ) (g_fm rel)⟩
    · unfold zX7_step; rw [x, fv_bi_ri, if_neg (by decide)]
    · unfold zX8_step; rw [m, fv_bi_ri, if_neg (by decide)]
