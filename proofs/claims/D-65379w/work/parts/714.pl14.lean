set_option maxRecDepth 100000
set_option maxHeartbeats 4000000
/-! The plain law: one instruction. -/
theorem p_len16 (p k m : Int32) : (p + (k + m)) &&& 65535 = (((p + k) &&& 65535) + m) &&& 65535 := by
  rw [p_add16 (p_idem16 (p + k)) m, Int32.add_assoc]
/-- the class finds a form -/
theorem x_inst {σ : fv_S} {p : Int32} (N : Nat) {f P o ix : Nat} (hp : fv_gi σ 4358 = p) (ha : zX2_at p σ = fv_ri (fv_gw σ 11 ix) σ) (hf : f < 900) (e1 : fv_gw σ 11 ix = Int32.ofNat f) (e2 : fv_gw σ 9 f = Int32.ofNat P) (e3 : fv_gw σ 10 f = Int32.ofNat o) (hP : P < 7) :
    zX7_instruction N σ = zX7_instruction_63 N (Int32.ofNat f) p (Int32.ofNat P) (Int32.ofNat o) (if P = 0 then 1 else 2) (fv_si σ 4370 0) := by
  have c := p_cl f (by omega)
  have hin : fv_in (Int32.ofNat f) 900 := by
    intro h
    rw [c] at h
    rcases h with h | h
    · rw [Int32.lt_iff_toInt_lt, p_ofn _ (by omega)] at h; simp at h; omega
    · omega
  have h0 : (0 : Int32) ≤ Int32.ofNat f := by
    rw [Int32.le_iff_toInt_le, p_ofn _ (by omega)]; simp
  have g9 : fv_ga σ 9 (Int32.ofNat f) = Int32.ofNat P := by show fv_gw σ 9 (Int32.ofNat f).toNatClampNeg = _; rw [c, e2]
  have g10 : fv_ga σ 10 (Int32.ofNat f) = Int32.ofNat o := by show fv_gw σ 10 (Int32.ofNat f).toNatClampNeg = _; rw [c, e3]
  unfold zX7_instruction
  rw [hp, ha, e1, fv_bi_ri, if_pos h0, if_pos hin, if_pos hin, g9, g10, hp]
  by_cases e : P = 0
  · subst e; rw [if_neg (by decide), if_pos rfl]
  · rw [if_pos ?_, if_neg e]
    intro c0
    have := congrArg Int32.toInt c0
    rw [p_ofn P (by omega)] at this
    simp at this; omega
theorem x_none {σ : fv_S} {p : Int32} (N : Nat) {ix : Nat} (hp : fv_gi σ 4358 = p) (ha : zX2_at p σ = fv_ri (fv_gw σ 11 ix) σ) (e1 : fv_gw σ 11 ix = -1) : zX7_instruction N σ = fv_ri 0 σ := by
  unfold zX7_instruction
  rw [hp, ha, e1, fv_bi_ri, if_neg (by decide)]
def p_rf (τ : fv_S) (s : Int32) : Int32 := (fv_gi τ 73 &&& 128) ||| ((fv_gi τ 73 + s) &&& 127)
def p_t3 (τ1 : fv_S) (s : Int32) : fv_S := fv_si (fv_si τ1 73 (p_rf τ1 s)) 85 0
def p_s3 (σ τ1 : fv_S) (s : Int32) : fv_S := fv_si (fv_si σ 4370 0) 4360 (p_rf τ1 s)
theorem c_pre {σ0 τ0 σ τ1 : fv_S} {p q : Int32} (h : pRel σ0 τ0 p q σ τ1) (s : Int32) : zX7_refreshBy s (fv_si σ 4370 0) = fv_rv (p_s3 σ τ1 s) ∧ zX8_goOn s τ1 = fv_rv (fv_si τ1 73 (p_rf τ1 s)) ∧ pRel σ0 τ0 p q (p_s3 σ τ1 s) (p_t3 τ1 s) := by
  have gi := g_i h
  refine ⟨?_, rfl, ?_⟩
  · unfold p_s3 p_rf
    rw [← show fv_gi σ 4360 = fv_gi τ1 73 from gi.2.2.1.2]; rfl
  · have := e_he (e_rf h (v := p_rf τ1 s) (pb_or (pb_and _ 128 rfl) (pb_and _ 127 rfl))) (v := 0) (Or.inl rfl)
    rw [s_comm _ _ _ _ _ (by decide)] at this
    exact this
/-- what the model does behind its decoding -/
noncomputable def p_rest (N : Nat) (σ14 : fv_S) : Option fv_O := if ¬ (fv_gi σ14 59) = 0 then zX8_step_41 N σ14 else if ¬ (fv_gi σ14 60) = 0 then zX8_step_41 N σ14 else zX8_step_42 N 1 σ14
theorem c_A {σ0 τ0 σ τ τ1 : fv_S} {p : Int32} (n : Nat) (h : pRel σ0 τ0 p p σ τ) (wp : pw p) (sf : pSF τ τ1) {f o : Nat} (bo : o < 256) (n1 : o ≠ 203 ∧ o ≠ 221 ∧ o ≠ 237 ∧ o ≠ 253)
    (e59 : fv_gi τ1 59 = 0) (e60 : fv_gi τ1 60 = 0) (e61 : fv_gi τ1 61 = Int32.ofNat o) (e64 : fv_gi τ1 64 = p + 1) (e63 : fv_gi τ1 63 = p_ln (Int32.ofNat o)) :
    ∃ r w σ' τ', pw r ∧ zX7_instruction_63 (n + 10) (Int32.ofNat f) p (Int32.ofNat 0) (Int32.ofNat o) 1 (fv_si σ 4370 0) = fv_ri w σ' ∧ p_rest (n + 10) τ1 = fv_ri w τ' ∧ pRel σ τ1 r r σ' τ' := by
  have h1 := e_scr h sf
  have e76 : fv_gi τ1 76 = p := g_pm h1
  obtain ⟨x1, m1, h2⟩ := c_pre h1 1
  have hb : pb (Int32.ofNat o) := p_ofN o bo
  have H : zX7_instruction_63 (n + 10) (Int32.ofNat f) p (Int32.ofNat 0) (Int32.ofNat o) 1 (fv_si σ 4370 0) = fv_bi (zX7_plain (n + 10) (Int32.ofNat o) 2 (p_hl (p_t3 τ1 1)) p ((p + 1) &&& 65535) (p_s3 σ τ1 1)) (fun r18 σ17 => fv_ri r18 σ17) fv_no := by
    unfold zX7_instruction_63
    rw [x1, fv_bv_rv, if_neg (show ¬ ¬ Int32.ofNat 0 = 0 from not_not_intro rfl), (x_hl h2).1, fv_bi_ri]
  have M : p_rest (n + 10) τ1 = if ¬ Int32.ofNat o = (118 : Int32) then zX8_step_80 (n + 10) p (p_t3 τ1 1) else fv_ri 3 (p_t3 τ1 1) := by
    unfold p_rest zX8_step_42
    rw [e59, e60, if_neg (by decide), if_neg (by decide), m1, fv_bv_rv, show fv_gi (fv_si τ1 73 (p_rf τ1 1)) 59 = 0 from e59, show fv_gi (fv_si τ1 73 (p_rf τ1 1)) 60 = 0 from e60, show fv_gi (fv_si τ1 73 (p_rf τ1 1)) 61 = Int32.ofNat o from e61, if_neg (by decide), if_neg (by decide), show fv_gi (fv_si τ1 73 (p_rf τ1 1)) 76 = p from e76]
    rfl
  by_cases e118 : Int32.ofNat o = 118
  · rw [H, M, if_neg (not_not_intro e118), e118]
    refine ⟨p, 3, _, _, wp, ?_, rfl, e_px (e_px h2 ((p + 1) &&& 65535)) p⟩
    unfold zX7_plain
    rw [if_neg (by decide), fv_bi_ri]
  · have hq0 : (fv_gi (p_t3 τ1 1) 76 + fv_gi (p_t3 τ1 1) 63) &&& 65535 = (((p + 1) &&& 65535) + p_nb (Int32.ofNat o)) &&& 65535 := by
      rw [show fv_gi (p_t3 τ1 1) 76 = p from g_pm h2, show fv_gi (p_t3 τ1 1) 63 = p_ln (Int32.ofNat o) from e63, p_f1 o bo, p_len16]
    have f4 := p_f4 o bo
    have h3 : p_x (Int32.ofNat o) = 3 → (p_zz (Int32.ofNat o) = 3 → p_yy (Int32.ofNat o) ≠ 1) ∧ (p_zz (Int32.ofNat o) = 5 → p_yy (Int32.ofNat o) &&& 1 = 1 → p_yy (Int32.ofNat o) = 1) := by
      intro ex
      rcases f4 with e | e | e | e | e | e
      · exact absurd e n1.1
      · exact absurd e n1.2.1
      · exact absurd e n1.2.2.1
      · exact absurd e n1.2.2.2
      · exact absurd ex e
      · exact ⟨fun z => e.1.resolve_left (not_not_intro z), fun z y => (e.2.resolve_left (not_not_intro z)).resolve_left (not_not_intro y)⟩
    obtain ⟨r, σ', τ', hr, xx, mm, rel⟩ := c_plain (a := p) n (e_pm h2 ((fv_gi (p_t3 τ1 1) 76 + fv_gi (p_t3 τ1 1) 63) &&& 65535)) (b := Int32.ofNat o) (hh := 2) (pl := p_hl (p_t3 τ1 1)) (at_ := p) (bh := (p + 1) &&& 65535) hb e118 (Or.inl ⟨e60, rfl⟩) e61 e59
      (fun _ => by unfold p_pl; rw [show fv_gi (p_t3 τ1 1) 60 = 0 from e60, if_pos rfl]; rfl) (pw_a _) (fun _ _ => rfl) (by rw [e64]) h3 rfl hq0
    refine ⟨r, 1, σ', τ', hr, ?_, ?_, rel⟩
    · rw [H, xx, fv_bi_ri]
    · rw [M, if_pos e118, mm]
theorem c_B {σ0 τ0 σ τ τ1 : fv_S} {p : Int32} (N : Nat) (h : pRel σ0 τ0 p p σ τ) (sf : pSF τ τ1) {f o : Nat} (bo : o < 256) (n1 : Int32.ofNat o >>> (3 : Int32) ≠ 6)
    (e59 : fv_gi τ1 59 = 1) (e60 : fv_gi τ1 60 = 0) (e61 : fv_gi τ1 61 = Int32.ofNat o) (e63 : fv_gi τ1 63 = 2) :
    ∃ r w σ' τ', pw r ∧ zX7_instruction_63 N (Int32.ofNat f) p (Int32.ofNat 1) (Int32.ofNat o) 2 (fv_si σ 4370 0) = fv_ri w σ' ∧ p_rest N τ1 = fv_ri w τ' ∧ pRel σ τ1 r r σ' τ' := by
  have h1 := e_scr h sf
  have e76 : fv_gi τ1 76 = p := g_pm h1
  obtain ⟨x1, m1, h2⟩ := c_pre h1 2
  have h3 := e_pm (e_px h2 ((p + 2) &&& 65535)) ((p + 2) &&& 65535)
  obtain ⟨σ', τ', xx, mm, rel⟩ := c_bits h3 (Or.inl e60 : pIx τ1) (b := Int32.ofNat o) (pl := p_hl (p_t3 τ1 2)) e61 (by unfold p_pl; rw [show fv_gi (fv_si (p_t3 τ1 2) 76 ((p + 2) &&& 65535)) 60 = 0 from e60, if_pos rfl]; rfl)
    (fun ex => by rcases p_f6 o bo with e | e | e; exact absurd e n1; exact absurd ex e; exact e)
  refine ⟨_, 1, σ', τ', pw_a (p + 2), ?_, ?_, rel⟩
  · unfold zX7_instruction_63
    rw [x1, fv_bv_rv, if_pos (show ¬ Int32.ofNat 1 = 0 by decide), if_neg (show ¬ ¬ Int32.ofNat 1 = 1 from not_not_intro rfl), (x_hl (e_px h2 ((p + 2) &&& 65535))).1, fv_bi_ri, xx, fv_bv_rv]
  · unfold p_rest zX8_step_41 zX8_step_42 zX8_step_80
    rw [e59, if_pos (by decide), m1, fv_bv_rv, show fv_gi (fv_si τ1 73 (p_rf τ1 2)) 59 = 1 from e59, if_pos (by decide), show fv_gi (fv_si (fv_si τ1 73 (p_rf τ1 2)) 85 0) 59 = 1 from e59, if_neg (by decide), show fv_gi (fv_si (fv_si τ1 73 (p_rf τ1 2)) 85 0) 76 = p from e76, show fv_gi (fv_si (fv_si τ1 73 (p_rf τ1 2)) 85 0) 63 = 2 from e63]
    rw [show zX8_do203 (fv_si (fv_si (fv_si τ1 73 (p_rf τ1 2)) 85 0) 76 ((p + 2) &&& 65535)) = fv_rv τ' from mm, fv_bv_rv]
theorem c_C {σ0 τ0 σ τ τ1 : fv_S} {p : Int32} (N : Nat) (h : pRel σ0 τ0 p p σ τ) (wp : pw p) (sf : pSF τ τ1) {f o : Nat} (bo : o < 256) (n1 : p_b7 (Int32.ofNat o) = 1)
    (e59 : fv_gi τ1 59 = 2) (e60 : fv_gi τ1 60 = 0) (e61 : fv_gi τ1 61 = Int32.ofNat o) (e64 : fv_gi τ1 64 = p + 2) (e63 : fv_gi τ1 63 = if p_x (Int32.ofNat o) = 1 ∧ p_zz (Int32.ofNat o) = 3 then 4 else 2) :
    ∃ r w σ' τ', pw r ∧ zX7_instruction_63 N (Int32.ofNat f) p (Int32.ofNat 2) (Int32.ofNat o) 2 (fv_si σ 4370 0) = fv_ri w σ' ∧ p_rest N τ1 = fv_ri w τ' ∧ pRel σ τ1 r r σ' τ' := by
  have h1 := e_scr h sf
  have e76 : fv_gi τ1 76 = p := g_pm h1
  obtain ⟨x1, m1, h2⟩ := c_pre h1 2
  have h3 := e_pm h2 ((p + fv_gi τ1 63) &&& 65535)
  have f5 := (p_f5 o bo).resolve_left (not_not_intro n1)
  have ok : p_e7 (Int32.ofNat o >>> (6 : Int32)) (p_yy (Int32.ofNat o)) (p_zz (Int32.ofNat o)) := by
    rcases f5 with e | e
    · exact Or.inl e
    · exact Or.inr ⟨e.1, fun z => e.2.2.1.resolve_left (not_not_intro z), fun z => e.2.2.2.1.resolve_left (not_not_intro z), fun z => e.2.2.2.2.1.resolve_left (not_not_intro z), fun z => e.2.2.2.2.2.resolve_left (not_not_intro z)⟩
  have hq : (p + fv_gi τ1 63) &&& 65535 = if ¬ Int32.ofNat o >>> (6 : Int32) = 2 ∧ p_zz (Int32.ofNat o) = 3 then ((((p + 2) &&& 65535)) + 2) &&& 65535 else (p + 2) &&& 65535 := by
    rw [e63]
    by_cases c : p_x (Int32.ofNat o) = 1 ∧ p_zz (Int32.ofNat o) = 3
    · rw [if_pos c, if_pos ⟨fun e => by have : p_x (Int32.ofNat o) = 2 := e; rw [this] at c; exact absurd c.1 (by decide), c.2⟩, ← p_len16]; rfl
    · rw [if_neg c, if_neg ?_]
      intro c2
      rcases f5 with e | e
      · exact c2.1 e.1
      · exact c ⟨e.2.1, c2.2⟩
  obtain ⟨r, σ', τ', hr, xx, mm, rel⟩ := c_237 h3 (b := Int32.ofNat o) (y := p_yy (Int32.ofNat o)) (z := p_zz (Int32.ofNat o)) (bh := (p + 2) &&& 65535) (at_ := p) e60 e61 rfl rfl ok (pw_a _) wp (by
    rw [p_sub16 (p_idem16 (p + 2)) 2, Int32.add_sub_cancel]; exact wp) (by rw [e64]) hq
  refine ⟨r, 1, σ', τ', hr, ?_, ?_, rel⟩
  · unfold zX7_instruction_63
    rw [x1, fv_bv_rv, if_pos (show ¬ Int32.ofNat 2 = 0 by decide), if_pos (show ¬ Int32.ofNat 2 = 1 by decide), if_neg (show ¬ ¬ Int32.ofNat 2 = 2 from not_not_intro rfl), xx, fv_bv_rv]
  · unfold p_rest zX8_step_41 zX8_step_42 zX8_step_80
    rw [e59, if_pos (by decide), m1, fv_bv_rv, show fv_gi (fv_si τ1 73 (p_rf τ1 2)) 59 = 2 from e59, if_pos (by decide), show fv_gi (fv_si (fv_si τ1 73 (p_rf τ1 2)) 85 0) 59 = 2 from e59, if_pos (by decide), if_neg (by decide), show fv_gi (fv_si (fv_si τ1 73 (p_rf τ1 2)) 85 0) 76 = p from e76, show fv_gi (fv_si τ1 73 (p_rf τ1 2)) 76 = p from e76, show fv_gi (fv_si (fv_si τ1 73 (p_rf τ1 2)) 85 0) 63 = fv_gi τ1 63 from rfl]
    rw [m_237 p (fv_si (fv_si (fv_si τ1 73 (p_rf τ1 2)) 85 0) 76 ((p + fv_gi τ1 63) &&& 65535)) (op := Int32.ofNat o) (y := p_yy (Int32.ofNat o)) e61 rfl]
    rw [show zX8_do237_26 p (p_yy (Int32.ofNat o)) (p_yy (Int32.ofNat o) >>> (1 : Int32)) (p_yy (Int32.ofNat o) &&& 1) (fv_si (fv_si (fv_si τ1 73 (p_rf τ1 2)) 85 0) 76 ((p + fv_gi τ1 63) &&& 65535)) = fv_rv τ' from mm, fv_bv_rv]
theorem p_f7 : ∀ n, n < 256 → p_hp (Int32.ofNat n) = 1 ∨ p_hh (Int32.ofNat n) ≠ 1 ∨ (p_x (Int32.ofNat n) ≠ 1 ∧ p_x (Int32.ofNat n) ≠ 2 ∧ (p_x (Int32.ofNat n) ≠ 0 ∨ (p_zz (Int32.ofNat n) ≠ 4 ∧ p_zz (Int32.ofNat n) ≠ 5 ∧ p_zz (Int32.ofNat n) ≠ 6))) := by decide +kernel
theorem p_ofni (o : Nat) (ho : o < 256) (m : Nat) (hm : m < 256) (h : o ≠ m) : Int32.ofNat o ≠ Int32.ofNat m := by
  intro e; have := congrArg Int32.toInt e; rw [p_ofn o (by omega), p_ofn m (by omega)] at this; omega
/-- IX or IY: i = 1, 2 -/
theorem x_pxy {σ0 τ0 σ τ : fv_S} {p q : Int32} (h : pRel σ0 τ0 p q σ τ) {i : Int32} (hi : i = 1 ∨ i = 2) : zX7_pair (5 + i) σ = fv_ri (fv_ga τ 25 i) σ := by
  rcases hi with rfl | rfl
  · rw [← (g_x1 h).1]; rfl
  · rw [← (g_x2 h).1]; rfl
theorem c_E {σ0 τ0 σ τ τ1 : fv_S} {p : Int32} (N : Nat) (h : pRel σ0 τ0 p p σ τ) (sf : pSF τ τ1) {f o P : Nat} (bo : o < 256) (n1 : Int32.ofNat o >>> (3 : Int32) ≠ 6) {i : Int32} (hP : (P = 5 ∧ i = 1) ∨ (P = 6 ∧ i = 2))
    (e59 : fv_gi τ1 59 = 1) (e60 : fv_gi τ1 60 = i) (e61 : fv_gi τ1 61 = Int32.ofNat o) (e62 : fv_gi τ1 62 = p_se (p_m τ1 (p + 2))) (e63 : fv_gi τ1 63 = 4) :
    ∃ r w σ' τ', pw r ∧ zX7_instruction_63 N (Int32.ofNat f) p (Int32.ofNat P) (Int32.ofNat o) 2 (fv_si σ 4370 0) = fv_ri w σ' ∧ p_rest N τ1 = fv_ri w τ' ∧ pRel σ τ1 r r σ' τ' := by
  have h1 := e_scr h sf
  have e76 : fv_gi τ1 76 = p := g_pm h1
  have hi : i = 1 ∨ i = 2 := by rcases hP with ⟨_, e⟩ | ⟨_, e⟩ <;> simp [e]
  obtain ⟨x1, m1, h2⟩ := c_pre h1 2
  have h3 := e_pm (e_px h2 ((p + 4) &&& 65535)) ((p + 4) &&& 65535)
  obtain ⟨v, hv, xg, mg⟩ := c_get h2 (a := p + 2) (a' := p + 2) rfl
  have ev : v = p_m τ1 (p + 2) := by
    rw [m_pk] at mg
    have := congrArg p_v mg
    exact this.symm
  have ixx : pIx τ1 := by
    rcases hi with e | e
    · exact Or.inr (Or.inl (e60.trans e))
    · exact Or.inr (Or.inr (e60.trans e))
  have hpl : p_pl (fv_si (p_t3 τ1 2) 76 ((p + 4) &&& 65535)) = (fv_ga τ1 25 i + p_se v) &&& 65535 := by
    unfold p_pl
    rw [show fv_gi (fv_si (p_t3 τ1 2) 76 ((p + 4) &&& 65535)) 60 = i from e60, show fv_gi (fv_si (p_t3 τ1 2) 76 ((p + 4) &&& 65535)) 62 = p_se (p_m τ1 (p + 2)) from e62, ev, if_neg (by rcases hi with rfl | rfl <;> decide)]
    rfl
  obtain ⟨σ', τ', xx, mm, rel⟩ := c_bits h3 ixx (b := Int32.ofNat o) (pl := (fv_ga τ1 25 i + p_se v) &&& 65535) e61 (by rw [hpl])
    (fun ex => by rcases p_f6 o bo with e | e | e; exact absurd e n1; exact absurd ex e; exact e)
  have X : zX7_instruction_152 N (Int32.ofNat f) p (Int32.ofNat P) (Int32.ofNat o) (5 + i) (p_s3 σ τ1 2) = fv_ri 1 σ' := by
    unfold zX7_instruction_152
    rw [x_pxy h2 hi, fv_bi_ri, xg, fv_bi_ri, if_neg (show ¬ Int32.ofNat P < 5 by rcases hP with ⟨rfl, _⟩ | ⟨rfl, _⟩ <;> decide), show fv_ga (p_t3 τ1 2) 25 i = fv_ga τ1 25 i from rfl]
    rw [show (fv_ga τ1 25 i + ((Int32.toInt8 v).toInt32)) &&& 65535 = (fv_ga τ1 25 i + p_se v) &&& 65535 from rfl, xx, fv_bv_rv]
  refine ⟨_, 1, σ', τ', pw_a (p + 4), ?_, ?_, rel⟩
  · unfold zX7_instruction_63 zX7_instruction_145
    rw [x1, fv_bv_rv]
    rcases hP with ⟨rfl, rfl⟩ | ⟨rfl, rfl⟩
    · rw [if_pos (show ¬ Int32.ofNat 5 = 0 by decide), if_pos (show ¬ Int32.ofNat 5 = 1 by decide), if_pos (show ¬ Int32.ofNat 5 = 2 by decide), if_neg (show ¬ Int32.ofNat 5 = 3 by decide), if_neg (show ¬ ¬ Int32.ofNat 5 = 5 from not_not_intro rfl)]
      exact X
    · rw [if_pos (show ¬ Int32.ofNat 6 = 0 by decide), if_pos (show ¬ Int32.ofNat 6 = 1 by decide), if_pos (show ¬ Int32.ofNat 6 = 2 by decide), if_neg (show ¬ Int32.ofNat 6 = 3 by decide), if_pos (show ¬ Int32.ofNat 6 = 5 by decide)]
      exact X
  · unfold p_rest zX8_step_41 zX8_step_42 zX8_step_80
    rw [e59, if_pos (by decide), m1, fv_bv_rv, show fv_gi (fv_si τ1 73 (p_rf τ1 2)) 59 = 1 from e59, if_pos (by decide), show fv_gi (fv_si (fv_si τ1 73 (p_rf τ1 2)) 85 0) 59 = 1 from e59, if_neg (by decide), show fv_gi (fv_si (fv_si τ1 73 (p_rf τ1 2)) 85 0) 76 = p from e76, show fv_gi (fv_si (fv_si τ1 73 (p_rf τ1 2)) 85 0) 63 = 4 from e63]
    rw [show zX8_do203 (fv_si (fv_si (fv_si τ1 73 (p_rf τ1 2)) 85 0) 76 ((p + 4) &&& 65535)) = fv_rv τ' from mm, fv_bv_rv]
theorem c_D {σ0 τ0 σ τ τ1 : fv_S} {p : Int32} (n : Nat) (h : pRel σ0 τ0 p p σ τ) (sf : pSF τ τ1) {f o P : Nat} (bo : o < 256) (hf : f < 900) {i g : Int32} (hP : (P = 3 ∧ i = 1) ∨ (P = 4 ∧ i = 2)) (ok : p_hp (Int32.ofNat o) = 1 ∨ p_hh (Int32.ofNat o) = 1)
    (hg : (g = 1 ∧ p_hp (Int32.ofNat o) = 1) ∨ (g = 0 ∧ p_hp (Int32.ofNat o) = 0)) (hix : (fv_gw σ 5 f = 10 ∨ fv_gw σ 7 f = 10) ↔ p_hp (Int32.ofNat o) = 1)
    (e59 : fv_gi τ1 59 = 0) (e60 : fv_gi τ1 60 = i) (e61 : fv_gi τ1 61 = Int32.ofNat o) (e62 : g = 1 → fv_gi τ1 62 = p_se (p_m τ1 (p + 2))) (e64 : fv_gi τ1 64 = p + (2 + g)) (e63 : fv_gi τ1 63 = (2 + g) + p_nb (Int32.ofNat o)) :
    ∃ r w σ' τ', pw r ∧ zX7_instruction_63 (n + 10) (Int32.ofNat f) p (Int32.ofNat P) (Int32.ofNat o) 2 (fv_si σ 4370 0) = fv_ri w σ' ∧ p_rest (n + 10) τ1 = fv_ri w τ' ∧ pRel σ τ1 r r σ' τ' := by
  have h1 := e_scr h sf
  have e76 : fv_gi τ1 76 = p := g_pm h1
  have hi : i = 1 ∨ i = 2 := by rcases hP with ⟨_, e⟩ | ⟨_, e⟩ <;> simp [e]
  obtain ⟨x1, m1, h2⟩ := c_pre h1 2
  obtain ⟨v, hv, xg, mg⟩ := c_get h2 (a := p + 2) (a' := p + 2) rfl
  have ev : v = p_m τ1 (p + 2) := by
    rw [m_pk] at mg
    have := congrArg p_v mg
    exact this.symm
  have f3 := (p_f3 o bo).resolve_left (not_not_intro ok)
  have c := p_cl f (by omega)
  have hin : fv_in (Int32.ofNat f) 900 := by
    intro h
    rw [c] at h
    rcases h with h | h
    · rw [Int32.lt_iff_toInt_lt, p_ofn _ (by omega)] at h; simp at h; omega
    · omega
  have HI : zX2_hasIndex (Int32.ofNat f) (p_s3 σ τ1 2) = fv_ri g (p_s3 σ τ1 2) := by
    have g5 : fv_ga (p_s3 σ τ1 2) 5 (Int32.ofNat f) = fv_gw σ 5 f := by show fv_gw σ 5 (Int32.ofNat f).toNatClampNeg = _; rw [c]
    have g7 : fv_ga (p_s3 σ τ1 2) 7 (Int32.ofNat f) = fv_gw σ 7 f := by show fv_gw σ 7 (Int32.ofNat f).toNatClampNeg = _; rw [c]
    unfold zX2_hasIndex
    rw [if_pos hin, if_pos hin, g5, g7]
    rcases hg with ⟨rfl, e⟩ | ⟨rfl, e⟩
    · rcases hix.2 e with e5 | e7
      · rw [if_pos e5]
      · by_cases e5 : fv_gw σ 5 f = 10
        · rw [if_pos e5]
        · rw [if_neg e5, if_neg (not_not_intro e7)]
    · have : ¬ (fv_gw σ 5 f = 10 ∨ fv_gw σ 7 f = 10) := fun e1 => by rw [hix.1 e1] at e; exact absurd e (by decide)
      rw [if_neg (fun e => this (Or.inl e)), if_pos (fun e => this (Or.inr e))]
  have gb : g = 0 ∨ g = 1 := by rcases hg with ⟨e, _⟩ | ⟨e, _⟩; exact Or.inr e; exact Or.inl e
  have lk : pLk τ1 (5 + i) := by
    rcases hi with rfl | rfl
    · exact Or.inr (Or.inl ⟨e60, rfl⟩)
    · exact Or.inr (Or.inr ⟨e60, rfl⟩)
  have hq0 : (fv_gi (p_t3 τ1 2) 76 + fv_gi (p_t3 τ1 2) 63) &&& 65535 = (((p + (2 + g)) &&& 65535) + p_nb (Int32.ofNat o)) &&& 65535 := by
    rw [show fv_gi (p_t3 τ1 2) 76 = p from e76, show fv_gi (p_t3 τ1 2) 63 = (2 + g) + p_nb (Int32.ofNat o) from e63, p_len16]
  have h3 : p_x (Int32.ofNat o) = 3 → (p_zz (Int32.ofNat o) = 3 → p_yy (Int32.ofNat o) ≠ 1) ∧ (p_zz (Int32.ofNat o) = 5 → p_yy (Int32.ofNat o) &&& 1 = 1 → p_yy (Int32.ofNat o) = 1) := by
    intro ex
    have e := f3.2.1.resolve_left (not_not_intro ex)
    exact ⟨fun z => e.1.resolve_left (not_not_intro z), fun z y => (e.2.resolve_left (not_not_intro z)).resolve_left (not_not_intro y)⟩
  have inz : ¬ i = 0 := by rcases hi with rfl | rfl <;> decide
  have key : ∃ r σ' τ', pw r ∧ zX7_plain (n + 10) (Int32.ofNat o) (5 + i) ((fv_ga τ1 25 i + p_se v) &&& 65535) ((p + 1) &&& 65535) ((p + (2 + g)) &&& 65535) (p_s3 σ τ1 2) = fv_ri 1 σ' ∧ zX8_step_80 (n + 10) p (p_t3 τ1 2) = fv_ri 1 τ' ∧ pRel σ τ1 r r σ' τ' := by
    have hb : pb (Int32.ofNat o) := p_ofN o bo
    refine c_plain (a := p) n (e_pm h2 ((fv_gi (p_t3 τ1 2) 76 + fv_gi (p_t3 τ1 2) 63) &&& 65535)) (b := Int32.ofNat o) (hh := 5 + i) (pl := (fv_ga τ1 25 i + p_se v) &&& 65535) (at_ := (p + 1) &&& 65535) (bh := (p + (2 + g)) &&& 65535) hb f3.2.2 lk e61 e59 ?_ (pw_a _) ?_ (by rw [e64]) h3 rfl hq0
    · intro cc
      rcases hg with ⟨rfl, e⟩ | ⟨rfl, e⟩
      · have hpl : p_pl (p_t3 τ1 2) = (fv_ga τ1 25 i + p_se v) &&& 65535 := by
          unfold p_pl
          rw [show fv_gi (p_t3 τ1 2) 60 = i from e60, show fv_gi (p_t3 τ1 2) 62 = p_se (p_m τ1 (p + 2)) from e62 rfl, ev, if_neg inz]
          rfl
        rw [hpl]
      · exfalso
        rcases p_f7 o bo with c1 | c1 | c1
        · rw [e] at c1; exact absurd c1 (by decide)
        · rcases ok with o1 | o1
          · rw [e] at o1; exact absurd o1 (by decide)
          · exact c1 o1
        · rcases cc with cc | cc | cc
          · exact c1.1 cc
          · exact c1.2.1 cc
          · rcases c1.2.2 with c2 | c2
            · exact c2 cc.1
            · rcases cc.2 with z | z | z
              · exact c2.1 z
              · exact c2.2.1 z
              · exact c2.2.2 z
    · intro a1 a2
      rcases f3.1 with c1 | c1
      · exact absurd a1 c1
      · exact absurd a2 c1
  obtain ⟨r, σ', τ', hr, xx, mm, rel⟩ := key
  have X : zX7_instruction_152 (n + 10) (Int32.ofNat f) p (Int32.ofNat P) (Int32.ofNat o) (5 + i) (p_s3 σ τ1 2) = fv_ri 1 σ' := by
    unfold zX7_instruction_152 zX7_instruction_231
    rw [x_pxy h2 hi, fv_bi_ri, xg, fv_bi_ri, if_pos (show Int32.ofNat P < 5 by rcases hP with ⟨rfl, _⟩ | ⟨rfl, _⟩ <;> decide), HI, fv_bi_ri, show fv_ga (p_t3 τ1 2) 25 i = fv_ga τ1 25 i from rfl]
    rw [show (fv_ga τ1 25 i + ((Int32.toInt8 v).toInt32)) &&& 65535 = (fv_ga τ1 25 i + p_se v) &&& 65535 from rfl]
    rcases gb with rfl | rfl
    · rw [if_pos rfl, Int32.add_assoc, xx, fv_bi_ri]
    · rw [if_neg (by decide), Int32.add_assoc, xx, fv_bi_ri]
  refine ⟨r, 1, σ', τ', hr, ?_, ?_, rel⟩
  · unfold zX7_instruction_63 zX7_instruction_145
    rw [x1, fv_bv_rv]
    rcases hP with ⟨rfl, rfl⟩ | ⟨rfl, rfl⟩
    · rw [if_pos (show ¬ Int32.ofNat 3 = 0 by decide), if_pos (show ¬ Int32.ofNat 3 = 1 by decide), if_pos (show ¬ Int32.ofNat 3 = 2 by decide), if_pos (show Int32.ofNat 3 = 3 from rfl)]
      exact X
    · rw [if_pos (show ¬ Int32.ofNat 4 = 0 by decide), if_pos (show ¬ Int32.ofNat 4 = 1 by decide), if_pos (show ¬ Int32.ofNat 4 = 2 by decide), if_neg (show ¬ Int32.ofNat 4 = 3 by decide), if_pos (show ¬ Int32.ofNat 4 = 5 by decide)]
      exact X
  · unfold p_rest zX8_step_41 zX8_step_42
    rw [e59, e60, if_neg (by decide), if_pos inz, m1, fv_bv_rv, show fv_gi (fv_si τ1 73 (p_rf τ1 2)) 59 = 0 from e59, if_neg (by decide), show fv_gi (fv_si τ1 73 (p_rf τ1 2)) 60 = i from e60, if_pos inz, show fv_gi (fv_si τ1 73 (p_rf τ1 2)) 76 = p from e76]
    exact mm
