set_option maxRecDepth 100000
set_option maxHeartbeats 4000000
/-! The plain law: one step of the machine. -/
theorem s_comm (σ : fv_S) (a b : Nat) (v w : Int32) (h : a ≠ b) : fv_si (fv_si σ a v) b w = fv_si (fv_si σ b w) a v := by
  unfold fv_si
  dsimp only
  congr 1
  funext j
  unfold va_up
  by_cases e : j = a
  · by_cases e2 : j = b
    · exact absurd (e.symm.trans e2) h
    · simp only [e, e2, if_true, if_false]; rw [if_neg h]
  · simp only [e, if_false]
theorem c_plain {σ0 τ0 σ τs : fv_S} {p' : Int32} (n : Nat) {b hh pl at_ bh a : Int32}
    (h : pRel σ0 τ0 p' ((fv_gi τs 76 + fv_gi τs 63) &&& 65535) σ (fv_si τs 76 ((fv_gi τs 76 + fv_gi τs 63) &&& 65535)))
    (hb : pb b) (h118 : b ≠ 118) (l : pLk τ0 hh) (hop : fv_gi τ0 61 = b) (h59 : fv_gi τs 59 = 0) (hpl : p_x b = 1 ∨ p_x b = 2 ∨ (p_x b = 0 ∧ (p_zz b = 4 ∨ p_zz b = 5 ∨ p_zz b = 6)) → pl &&& 65535 = p_pl τs &&& 65535) (wb : pw bh) (hat : p_x b = 0 → p_zz b = 0 → (at_ + 1) &&& 65535 = bh)
    (ho : bh = fv_gi τ0 64 &&& 65535) (h3 : p_x b = 3 → (p_zz b = 3 → p_yy b ≠ 1) ∧ (p_zz b = 5 → p_yy b &&& 1 = 1 → p_yy b = 1)) (h85 : fv_gi τs 85 = 0) (hq : (fv_gi τs 76 + fv_gi τs 63) &&& 65535 = (bh + p_nb b) &&& 65535) :
    ∃ r σ' τ', pw r ∧ zX7_plain (n + 10) b hh pl at_ bh σ = fv_ri 1 σ' ∧ zX8_step_80 (n + 10) a τs = fv_ri 1 τ' ∧ pRel σ0 τ0 r r σ' τ' := by
  generalize hτ : fv_si τs 76 ((fv_gi τs 76 + fv_gi τs 63) &&& 65535) = τ at h
  generalize hqq : (fv_gi τs 76 + fv_gi τs 63) &&& 65535 = q at h hq hτ
  have e61 : fv_gi τs 61 = b := by
    have := g_k h 61 (by omega)
    rw [← hτ] at this; exact this.trans hop
  have hpl' : p_x b = 1 ∨ p_x b = 2 ∨ (p_x b = 0 ∧ (p_zz b = 4 ∨ p_zz b = 5 ∨ p_zz b = 6)) → pl &&& 65535 = p_pl τ &&& 65535 := by rw [← hτ]; exact hpl
  have ix := pLk_ix l
  have h1 := e_px h bh
  have hy : p_y8 (p_yy b) := p_and7 _
  have hz : p_y8 (p_zz b) := p_and7 _
  have hop7 : fv_gi τ0 61 &&& 7 = p_zz b := by rw [hop]; rfl
  unfold zX7_plain zX8_step_80
  rw [if_pos h118, e61, h59, if_pos (show ¬ (0 : Int32) = 1 by decide), if_pos (show ¬ (0 : Int32) = 2 by decide), hqq, hτ]
  by_cases x0 : b >>> (6 : Int32) = 0
  · have hnb : p_nb b = p_nb0 (p_yy b) (p_zz b) := if_pos x0
    obtain ⟨r, σ', τ', hr, x1, m1, rel⟩ := c_first h1 n (y := p_yy b) (z := p_zz b) (at_ := at_) l hy hz hop7 (fun c => hpl' (Or.inr (Or.inr ⟨x0, c⟩))) rfl wb (hat x0) ho (by rw [hq, hnb])
    refine ⟨r, σ', τ', hr, ?_, ?_, rel⟩
    · rw [if_neg (not_not_intro x0), show zX7_low (n + 10) ((b >>> (3 : Int32)) &&& 7) (b &&& 7) hh pl at_ bh (fv_si σ 4358 bh) = fv_rv σ' from x1, fv_bv_rv]
    · rw [if_neg (not_not_intro x0), m_first τ (op := b) (y := p_yy b) (by rw [← hτ]; exact e61) rfl, m1, fv_bv_rv]
  · rw [if_pos x0, if_pos x0]
    by_cases x1 : b >>> (6 : Int32) = 1
    · have hnb : p_nb b = 0 := by unfold p_nb; rw [if_neg (show ¬ p_x b = 0 from x0), if_neg (by unfold p_x; rw [x1]; decide)]
      have hq' : q = bh := by rw [hq, hnb, p_add0 wb]
      rw [hq'] at h1
      have hpl' := hpl' (Or.inl x1)
      obtain ⟨v, hv, xo, mo⟩ := c_oct h1 ix hz hpl'
      obtain ⟨σ', τ', xs, ms, rel⟩ := c_seto h1 ix hy hpl' v
      refine ⟨bh, σ', τ', wb, ?_, ?_, rel⟩
      · rw [if_neg (not_not_intro x1), show zX7_octet (b &&& 7) pl (fv_si σ 4358 bh) = fv_ri v _ from xo, fv_bi_ri, show zX7_setOctet ((b >>> (3 : Int32)) &&& 7) pl v (fv_si σ 4358 bh) = fv_rv σ' from xs, fv_bv_rv]
      · rw [if_neg (not_not_intro x1), show zX8_octetAt (b &&& 7) τ = fv_ri v τ from mo, fv_bi_ri, show zX8_setOctet ((b >>> (3 : Int32)) &&& 7) v τ = fv_rv τ' from ms, fv_bv_rv]
    · rw [if_pos x1, if_pos x1]
      by_cases x2 : b >>> (6 : Int32) = 2
      · have hnb : p_nb b = 0 := by unfold p_nb; rw [if_neg (show ¬ p_x b = 0 from x0), if_neg (by unfold p_x; rw [x2]; decide)]
        have hq' : q = bh := by rw [hq, hnb, p_add0 wb]
        rw [hq'] at h1
        have hpl' := hpl' (Or.inr (Or.inl x2))
        obtain ⟨v, hv, xo, mo⟩ := c_oct h1 ix hz hpl'
        obtain ⟨σ', τ', xs, ms, rel⟩ := c_arith h1 hy hv
        refine ⟨bh, σ', τ', wb, ?_, ?_, rel⟩
        · rw [if_neg (not_not_intro x2), show zX7_octet (b &&& 7) pl (fv_si σ 4358 bh) = fv_ri v _ from xo, fv_bi_ri, show zX7_arithmetic ((b >>> (3 : Int32)) &&& 7) v (fv_si σ 4358 bh) = fv_rv σ' from xs, fv_bv_rv]
        · rw [if_neg (not_not_intro x2), show zX8_octetAt (b &&& 7) τ = fv_ri v τ from mo, fv_bi_ri, show zX8_reckon ((b >>> (3 : Int32)) &&& 7) v τ = fv_rv τ' from ms, fv_bv_rv]
      · rw [if_pos x2, if_pos x2]
        have x3 : p_x b = 3 := by
          obtain ⟨m, hm, rfl⟩ := pb_n hb
          have : ∀ m, m < 256 → Int32.ofNat m >>> (6 : Int32) = 0 ∨ Int32.ofNat m >>> (6 : Int32) = 1 ∨ Int32.ofNat m >>> (6 : Int32) = 2 ∨ Int32.ofNat m >>> (6 : Int32) = 3 := by decide +kernel
          rcases this m hm with e | e | e | e
          · exact absurd e x0
          · exact absurd e x1
          · exact absurd e x2
          · exact e
        have hnb : p_nb b = p_nb3 (p_yy b) (p_zz b) := by unfold p_nb; rw [if_neg (show ¬ p_x b = 0 from x0), if_pos x3]
        obtain ⟨r, σ', τ', hr, xx, mm, rel⟩ := c_last h1 n (y := p_yy b) (z := p_zz b) l hy hz hop7 (h3 x3).1 (h3 x3).2 rfl wb ho (by rw [← hτ]; exact h85) (by rw [hq, hnb])
        refine ⟨r, σ', τ', hr, ?_, ?_, rel⟩
        · rw [show zX7_high (n + 10) ((b >>> (3 : Int32)) &&& 7) (b &&& 7) hh bh (fv_si σ 4358 bh) = fv_rv σ' from xx, fv_bv_rv]
        · rw [m_last (n + 10) τ (op := b) (y := p_yy b) (by rw [← hτ]; exact e61) rfl, mm, fv_bv_rv]
/-- the model's state but for what its decoding leaves -/
def pFO (τ0 τ : fv_S) : Prop := (∀ k, k < 59 ∨ (64 < k ∧ k < 72) → τ.1 k = τ0.1 k) ∧ (∀ k, k < 23 → k ≠ 13 → τ.2.2.1 k = τ0.2.2.1 k) ∧ τ.2.2.2 = τ0.2.2.2
def pSF (τ τ1 : fv_S) : Prop := (∀ k, k < 59 ∨ 64 < k → τ1.1 k = τ.1 k) ∧ τ1.2 = τ.2
theorem pSF_r (τ : fv_S) : pSF τ τ := ⟨fun _ _ => rfl, rfl⟩
theorem pSF_si {τ τ1 : fv_S} (h : pSF τ τ1) (k : Nat) (v : Int32) (hk : 59 ≤ k ∧ k ≤ 64) : pSF τ (fv_si τ1 k v) := ⟨fun j hj => (if_neg (by omega)).trans (h.1 j hj), h.2⟩
theorem pFO_of {τ τ1 τ' : fv_S} (h : pSF τ τ1) (g : pFM τ1 τ') : pFO τ τ' := by
  refine ⟨fun k hk => ?_, fun k hk hj => ?_, ?_⟩
  · rw [g.1 k (by omega), h.1 k (by omega)]
  · rw [g.2.1 k hk hj, h.2]
  · rw [g.2.2, h.2]
theorem pRi_c {f g g1 : Nat → Int32} (h : pRi f g) (e : ∀ k, 72 ≤ k → g1 k = g k) : pRi f g1 := by
  unfold pRi
  rw [e 75 (by omega), e 72 (by omega), e 73 (by omega), e 77 (by omega), e 78 (by omega), e 79 (by omega), e 83 (by omega), e 84 (by omega), e 82 (by omega), e 85 (by omega)]
  exact h
theorem e_scr {σ0 τ0 σ τ τ1 : fv_S} {p q : Int32} (h : pRel σ0 τ0 p q σ τ) (s : pSF τ τ1) : pRel σ τ1 p q σ τ1 := by
  obtain ⟨m, r, o, x, i, u, s', l, hp, hq, fx, fm⟩ := h
  have e : ∀ k, fv_gw τ1 k = fv_gw τ k := fun k => by show τ1.2.2.1 k = τ.2.2.1 k; rw [s.2]
  refine ⟨?_, ?_, ?_, ?_, ?_, ?_, pRi_c s' (fun k hk => s.1 k (by omega)), ?_, hp, ?_, pFX_r _, pFM_r _⟩
  · rw [e]; exact m
  · rw [e]; exact r
  · rw [e]; exact o
  · rw [e]; exact x
  · rw [e]; exact i
  · rw [e]; exact u
  · show σ.2.1 4366 = τ1.2.1 86; rw [s.2]; exact l
  · show τ1.1 76 = q; rw [s.1 76 (by omega)]; exact hq
noncomputable def pS0 (τ : fv_S) (a b : Int32) : fv_S := fv_si (fv_si (fv_si (fv_si (fv_si (fv_si τ 59 0) 60 0) 62 0) 61 b) 64 (a + 1)) 63 (p_ln b)
theorem pSF_0 (τ : fv_S) (a b : Int32) : pSF τ (pS0 τ a b) := pSF_si (pSF_si (pSF_si (pSF_si (pSF_si (pSF_si (pSF_r τ) 59 _ (by omega)) 60 _ (by omega)) 62 _ (by omega)) 61 _ (by omega)) 64 _ (by omega)) 63 _ (by omega)
theorem m_pk (a : Int32) (τ : fv_S) : zX8_peek a τ = fv_ri (p_m τ a) τ := m_peek a τ
theorem m_dec {τ : fv_S} {a : Int32} : zX8_decode a τ = (if ¬ p_m τ a = (203 : Int32) then
        if ¬ p_m τ a = (237 : Int32) then
          if p_m τ a = (221 : Int32) then zX8_decode_186 a 1 (pS0 τ a (p_m τ a))
          else if p_m τ a = (253 : Int32) then zX8_decode_186 a 2 (pS0 τ a (p_m τ a))
          else fv_ri 1 (pS0 τ a (p_m τ a))
        else
          if ¬ (p_m τ (a + 1) >>> (6 : Int32)) = (1 : Int32) then zX8_decode_145 2 (fv_si (fv_si (fv_si (pS0 τ a (p_m τ a)) 59 2) 61 (p_m τ (a + 1))) 64 (a + (2 : Int32)))
          else if ¬ (p_m τ (a + 1) &&& (7 : Int32)) = (3 : Int32) then zX8_decode_145 2 (fv_si (fv_si (fv_si (pS0 τ a (p_m τ a)) 59 2) 61 (p_m τ (a + 1))) 64 (a + (2 : Int32)))
          else zX8_decode_145 4 (fv_si (fv_si (fv_si (pS0 τ a (p_m τ a)) 59 2) 61 (p_m τ (a + 1))) 64 (a + (2 : Int32)))
      else
        if (p_m τ (a + 1) >>> (3 : Int32)) = (6 : Int32) then fv_ri 0 (fv_si (fv_si (fv_si (pS0 τ a (p_m τ a)) 59 1) 61 (p_m τ (a + 1))) 63 2)
          else fv_ri 1 (fv_si (fv_si (fv_si (pS0 τ a (p_m τ a)) 59 1) 61 (p_m τ (a + 1))) 63 2)) := by
  unfold zX8_decode
  rw [m_pk, fv_bi_ri, m_len, fv_bi_ri]
  have k1 : ∀ s, zX8_peek (a + 1) (fv_si (pS0 τ a (p_m τ a)) 59 s) = fv_ri (p_m τ (a + 1)) (fv_si (pS0 τ a (p_m τ a)) 59 s) := fun s => m_pk _ _
  show (if ¬ p_m τ a = (203 : Int32) then
        if ¬ p_m τ a = (237 : Int32) then
          if p_m τ a = (221 : Int32) then zX8_decode_173 a (p_m τ a) (pS0 τ a (p_m τ a))
          else if p_m τ a = (253 : Int32) then zX8_decode_173 a (p_m τ a) (pS0 τ a (p_m τ a))
          else fv_ri 1 (pS0 τ a (p_m τ a))
        else
          fv_bi (zX8_peek (a + (1 : Int32)) (fv_si (pS0 τ a (p_m τ a)) 59 2)) _ _
      else
        fv_bi (zX8_peek (a + (1 : Int32)) (fv_si (pS0 τ a (p_m τ a)) 59 1)) _ _) = _
  rw [k1, k1, fv_bi_ri, fv_bi_ri]
  by_cases c1 : p_m τ a = 203
  · rw [if_neg (not_not_intro c1), if_neg (not_not_intro c1)]
  · rw [if_pos c1, if_pos c1]
    by_cases c2 : p_m τ a = 237
    · rw [if_neg (not_not_intro c2), if_neg (not_not_intro c2)]; rfl
    · rw [if_pos c2, if_pos c2]
      by_cases c3 : p_m τ a = 221
      · rw [if_pos c3, if_pos c3]; unfold zX8_decode_173; rw [if_neg (not_not_intro c3)]
      · rw [if_neg c3, if_neg c3]
        by_cases c4 : p_m τ a = 253
        · rw [if_pos c4, if_pos c4]; unfold zX8_decode_173; rw [if_pos c3]
        · rw [if_neg c4, if_neg c4]
