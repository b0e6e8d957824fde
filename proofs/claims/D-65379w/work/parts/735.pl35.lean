set_option maxRecDepth 100000
set_option maxHeartbeats 4000000
/-! The plain law: what stands at an address, for writing. -/
def p_k59 (P : Nat) : Int32 := if P = 1 ∨ P = 5 ∨ P = 6 then 1 else if P = 2 then 2 else 0
def p_i60 (P : Nat) : Int32 := if P = 3 ∨ P = 5 then 1 else if P = 4 ∨ P = 6 then 2 else 0
noncomputable def p_lnP (P o : Nat) : Int32 := if P = 0 then p_ln (Int32.ofNat o) else if P = 1 then 2 else if P = 2 then (if p_x (Int32.ofNat o) = 1 ∧ p_zz (Int32.ofNat o) = 3 then 4 else 2) else if P = 3 ∨ P = 4 then (if p_hp (Int32.ofNat o) = 0 then 1 + p_ln (Int32.ofNat o) else (1 + p_ln (Int32.ofNat o)) + 1) else 4
noncomputable def p_ofP (P o : Nat) : Int32 := if P = 2 then 2 else if P = 3 ∨ P = 4 then (if p_hp (Int32.ofNat o) = 0 then 2 else 3) else 1
/-- what the decoding leaves -/
def pDc (τ τ1 : fv_S) (a : Int32) (P o : Nat) : Prop := pSF τ τ1 ∧ fv_gi τ1 59 = p_k59 P ∧ fv_gi τ1 60 = p_i60 P ∧ fv_gi τ1 61 = Int32.ofNat o ∧ fv_gi τ1 63 = p_lnP P o ∧ fv_gi τ1 64 = a + p_ofP P o ∧ ((P = 5 ∨ P = 6 ∨ ((P = 3 ∨ P = 4) ∧ p_hp (Int32.ofNat o) = 1)) → fv_gi τ1 62 = p_se (p_m τ (a + 2))) ∧ (¬ (P = 5 ∨ P = 6 ∨ ((P = 3 ∨ P = 4) ∧ p_hp (Int32.ofNat o) = 1)) → fv_gi τ1 62 = 0)
theorem c_dec {σ0 τ0 σ τ : fv_S} {p q : Int32} (h : pRel σ0 τ0 p q σ τ) {a : Int32} (wa : pw a) : ∃ P o τ1, P < 7 ∧ o < 256 ∧ zX2_at a σ = fv_ri (fv_gw σ 11 (256 * P + o)) σ ∧ ((p_ok P o = true ∧ zX8_decode a τ = fv_ri 1 τ1 ∧ pDc τ τ1 a P o) ∨ (p_ok P o = false ∧ zX8_decode a τ = fv_ri 0 τ1 ∧ pSF τ τ1)) := by
  obtain ⟨b, hb, eb⟩ := pb_n (x_m h a).2
  obtain ⟨n1, hn1, e1⟩ := pb_n (x_m h (a + 1)).2
  obtain ⟨n3, hn3, e3⟩ := pb_n (x_m h (a + 3)).2
  have ha := x_at h wa eb hb e1 hn1 e3 hn3
  have sf0 := pSF_0 τ a (p_m τ a)
  rw [m_dec, eb, e1]
  by_cases c1 : b = 203
  · subst c1
    rw [if_pos rfl] at ha
    have sf1 : pSF τ (fv_si (fv_si (fv_si (pS0 τ a (p_m τ a)) 59 1) 61 (Int32.ofNat n1)) 63 2) := pSF_si (pSF_si (pSF_si sf0 59 _ (by omega)) 61 _ (by omega)) 63 _ (by omega)
    rw [eb] at sf1
    have q6 : Int32.ofNat n1 >>> (3 : Int32) = 6 ↔ n1 / 8 = 6 := by
      have : ∀ n, n < 256 → (Int32.ofNat n >>> (3 : Int32) = 6 ↔ n / 8 = 6) := by decide +kernel
      exact this n1 hn1
    rw [if_neg (show ¬ ¬ Int32.ofNat 203 = 203 from not_not_intro rfl)]
    refine ⟨1, n1, fv_si (fv_si (fv_si (pS0 τ a (Int32.ofNat 203)) 59 1) 61 (Int32.ofNat n1)) 63 2, by omega, hn1, ha, ?_⟩
    by_cases c6 : n1 / 8 = 6
    · right
      rw [if_pos (q6.2 c6)]
      exact ⟨by simp [p_ok, c6], rfl, sf1⟩
    · left
      rw [if_neg (fun e => c6 (q6.1 e))]
      exact ⟨by simp [p_ok, c6], rfl, sf1, rfl, rfl, rfl, rfl, rfl, fun e => absurd e (by omega), fun _ => rfl⟩
  · have d1 := p_ofni b hb 203 (by omega) c1
    rw [if_neg c1] at ha
    rw [if_pos (show ¬ Int32.ofNat b = 203 from d1)]
    by_cases c2 : b = 237
    · subst c2
      rw [if_pos rfl] at ha
      rw [if_neg (show ¬ ¬ Int32.ofNat 237 = 237 from not_not_intro rfl)]
      have key : ∀ k, (k = if p_x (Int32.ofNat n1) = 1 ∧ p_zz (Int32.ofNat n1) = 3 then (4 : Int32) else 2) → ∃ τ1, (p_ok 2 n1 = true ∧ zX8_decode_145 k (fv_si (fv_si (fv_si (pS0 τ a (Int32.ofNat 237)) 59 2) 61 (Int32.ofNat n1)) 64 (a + 2)) = fv_ri 1 τ1 ∧ pDc τ τ1 a 2 n1) ∨ (p_ok 2 n1 = false ∧ zX8_decode_145 k (fv_si (fv_si (fv_si (pS0 τ a (Int32.ofNat 237)) 59 2) 61 (Int32.ofNat n1)) 64 (a + 2)) = fv_ri 0 τ1 ∧ pSF τ τ1) := by
        intro k hk
        have sf1 : pSF τ (fv_si (fv_si (fv_si (fv_si (pS0 τ a (p_m τ a)) 59 2) 61 (Int32.ofNat n1)) 64 (a + 2)) 63 k) := pSF_si (pSF_si (pSF_si (pSF_si sf0 59 _ (by omega)) 61 _ (by omega)) 64 _ (by omega)) 63 _ (by omega)
        rw [eb] at sf1
        refine ⟨fv_si (fv_si (fv_si (fv_si (pS0 τ a (Int32.ofNat 237)) 59 2) 61 (Int32.ofNat n1)) 64 (a + 2)) 63 k, ?_⟩
        unfold zX8_decode_145
        rw [m_b7, fv_bi_ri, show fv_gi (fv_si (fv_si (fv_si (pS0 τ a (Int32.ofNat 237)) 59 2) 61 (Int32.ofNat n1)) 64 (a + 2)) 61 = Int32.ofNat n1 from rfl, if_pos (p_f2 n1 hn1).2.2]
        by_cases c7 : p_b7 (Int32.ofNat n1) = 1
        · left; rw [c7]
          exact ⟨by simp [p_ok, c7], rfl, sf1, rfl, rfl, rfl, hk, rfl, fun e => absurd e (by omega), fun _ => rfl⟩
        · right
          have c0 : p_b7 (Int32.ofNat n1) = 0 := (p_f2 n1 hn1).2.2.resolve_right c7
          rw [c0]
          exact ⟨by simp [p_ok, c7], rfl, sf1⟩
      by_cases x1 : Int32.ofNat n1 >>> (6 : Int32) = 1
      · rw [if_neg (not_not_intro x1)]
        by_cases z3 : Int32.ofNat n1 &&& 7 = 3
        · rw [if_neg (not_not_intro z3)]
          obtain ⟨τ1, k⟩ := key 4 (by rw [if_pos ⟨x1, z3⟩])
          exact ⟨2, n1, τ1, by omega, hn1, ha, k⟩
        · rw [if_pos z3]
          obtain ⟨τ1, k⟩ := key 2 (by rw [if_neg (fun e => z3 e.2)])
          exact ⟨2, n1, τ1, by omega, hn1, ha, k⟩
      · rw [if_pos x1]
        obtain ⟨τ1, k⟩ := key 2 (by rw [if_neg (fun e => x1 e.1)])
        exact ⟨2, n1, τ1, by omega, hn1, ha, k⟩
    · have d2 := p_ofni b hb 237 (by omega) c2
      rw [if_neg c2] at ha
      rw [if_pos (show ¬ Int32.ofNat b = 237 from d2)]
      have key : ∀ (P1 P2 : Nat) (i : Int32), (P1 = 3 ∧ P2 = 5 ∧ i = 1) ∨ (P1 = 4 ∧ P2 = 6 ∧ i = 2) → zX2_at a σ = fv_ri (fv_gw σ 11 (if n1 = 203 then 256 * P2 + n3 else 256 * P1 + n1)) σ → ∃ P o τ1, P < 7 ∧ o < 256 ∧ zX2_at a σ = fv_ri (fv_gw σ 11 (256 * P + o)) σ ∧ ((p_ok P o = true ∧ zX8_decode_186 a i (pS0 τ a (p_m τ a)) = fv_ri 1 τ1 ∧ pDc τ τ1 a P o) ∨ (p_ok P o = false ∧ zX8_decode_186 a i (pS0 τ a (p_m τ a)) = fv_ri 0 τ1 ∧ pSF τ τ1)) := by
        intro P1 P2 i hP ha
        rw [c_186, e1]
        have sg := m_signed (x_m h (a + 2)).2
        by_cases c5 : n1 = 203
        · subst c5
          rw [if_pos rfl] at ha
          rw [if_neg (show ¬ ¬ Int32.ofNat 203 = 203 from not_not_intro rfl), sg, fv_bi_ri]
          have sf1 : pSF τ (fv_si (fv_si (fv_si (fv_si (fv_si (fv_si (pS0 τ a (p_m τ a)) 60 i) 61 (Int32.ofNat 203)) 59 1) 62 (p_se (p_m τ (a + 2)))) 61 (Int32.ofNat n3)) 63 4) :=
            pSF_si (pSF_si (pSF_si (pSF_si (pSF_si (pSF_si sf0 60 _ (by omega)) 61 _ (by omega)) 59 _ (by omega)) 62 _ (by omega)) 61 _ (by omega)) 63 _ (by omega)
          rw [show ∀ t, p_m (fv_si (fv_si (fv_si (pS0 τ a (p_m τ a)) 60 i) 61 t) 59 1) (a + 3) = p_m τ (a + 3) from fun _ => rfl, e3]
          have q6 : (Int32.ofNat n3 >>> (3 : Int32) = 6 ↔ n3 / 8 = 6) ∧ (Int32.ofNat n3 &&& 7 = 6 ↔ n3 % 8 = 6) := by
            have : ∀ n, n < 256 → (Int32.ofNat n >>> (3 : Int32) = 6 ↔ n / 8 = 6) ∧ (Int32.ofNat n &&& (7 : Int32) = 6 ↔ n % 8 = 6) := by decide +kernel
            exact this n3 hn3
          have okE : p_ok P2 n3 = (n3 % 8 == 6 && n3 / 8 != 6) := by rcases hP with ⟨_, rfl, _⟩ | ⟨_, rfl, _⟩ <;> rfl
          refine ⟨P2, n3, fv_si (fv_si (fv_si (fv_si (fv_si (fv_si (pS0 τ a (p_m τ a)) 60 i) 61 (Int32.ofNat 203)) 59 1) 62 (p_se (p_m τ (a + 2)))) 61 (Int32.ofNat n3)) 63 4, by omega, hn3, ha, ?_⟩
          by_cases c7 : n3 % 8 = 6
          · rw [if_neg (not_not_intro (q6.2.2 c7))]
            by_cases c6 : n3 / 8 = 6
            · right; rw [if_pos (q6.1.2 c6)]; exact ⟨by rw [okE]; simp [c6], rfl, sf1⟩
            · left; rw [if_neg (fun e => c6 (q6.1.1 e))]
              refine ⟨by rw [okE]; simp [c6, c7], rfl, sf1, ?_, ?_, rfl, ?_, ?_, fun _ => rfl, fun e => absurd (by omega) e⟩
              · rcases hP with ⟨_, rfl, _⟩ | ⟨_, rfl, _⟩ <;> rfl
              · rcases hP with ⟨_, rfl, rfl⟩ | ⟨_, rfl, rfl⟩ <;> rfl
              · rcases hP with ⟨_, rfl, _⟩ | ⟨_, rfl, _⟩ <;> rfl
              · rcases hP with ⟨_, rfl, _⟩ | ⟨_, rfl, _⟩ <;> rfl
          · right; rw [if_pos (fun e => c7 (q6.2.1 e))]; exact ⟨by rw [okE]; simp [c7], rfl, sf1⟩
        · have d5 := p_ofni n1 hn1 203 (by omega) c5
          rw [if_neg c5] at ha
          rw [if_pos (show ¬ Int32.ofNat n1 = 203 from d5)]
          have okE : p_ok P1 n1 = (decide (p_hp (Int32.ofNat n1) = 1) || decide (p_hh (Int32.ofNat n1) = 1)) := by rcases hP with ⟨rfl, _⟩ | ⟨rfl, _⟩ <;> rfl
          have sf1 : pSF τ (fv_si (fv_si (fv_si (fv_si (pS0 τ a (p_m τ a)) 60 i) 61 (Int32.ofNat n1)) 64 (a + 2)) 63 (1 + p_ln (Int32.ofNat n1))) :=
            pSF_si (pSF_si (pSF_si (pSF_si sf0 60 _ (by omega)) 61 _ (by omega)) 64 _ (by omega)) 63 _ (by omega)
          have k0 : p_k59 P1 = 0 := by rcases hP with ⟨rfl, _⟩ | ⟨rfl, _⟩ <;> rfl
          have i0 : p_i60 P1 = i := by rcases hP with ⟨rfl, _, rfl⟩ | ⟨rfl, _, rfl⟩ <;> rfl
          have lnE : p_lnP P1 n1 = if p_hp (Int32.ofNat n1) = 0 then 1 + p_ln (Int32.ofNat n1) else (1 + p_ln (Int32.ofNat n1)) + 1 := by rcases hP with ⟨rfl, _⟩ | ⟨rfl, _⟩ <;> rfl
          have ofE : p_ofP P1 n1 = if p_hp (Int32.ofNat n1) = 0 then 2 else 3 := by rcases hP with ⟨rfl, _⟩ | ⟨rfl, _⟩ <;> rfl
          by_cases c8 : p_hp (Int32.ofNat n1) = 0
          · rw [if_pos c8, if_pos (p_f2 n1 hn1).2.1]
            rw [if_pos c8] at lnE ofE
            refine ⟨P1, n1, fv_si (fv_si (fv_si (fv_si (pS0 τ a (p_m τ a)) 60 i) 61 (Int32.ofNat n1)) 64 (a + 2)) 63 (1 + p_ln (Int32.ofNat n1)), by omega, hn1, ha, ?_⟩
            by_cases c9 : p_hh (Int32.ofNat n1) = 1
            · left; rw [c9]
              refine ⟨by rw [okE]; simp [c9], rfl, sf1, k0.symm, i0.symm, rfl, lnE.symm, by rw [ofE]; rfl, fun e => ?_, fun _ => rfl⟩
              rcases e with e | e | e
              · omega
              · omega
              · rw [c8] at e; exact absurd e.2 (by decide)
            · right
              have c0 : p_hh (Int32.ofNat n1) = 0 := (p_f2 n1 hn1).2.1.resolve_right c9
              rw [c0]; exact ⟨by rw [okE]; simp [c9, c8], rfl, sf1⟩
          · have c9 : p_hp (Int32.ofNat n1) = 1 := (p_f2 n1 hn1).1.resolve_left c8
            rw [if_neg c8, sg, fv_bi_ri]
            rw [if_neg c8] at lnE ofE
            have sf2 := pSF_si (pSF_si (pSF_si sf1 62 (p_se (p_m τ (a + 2))) (by omega)) 64 (a + 3) (by omega)) 63 ((1 + p_ln (Int32.ofNat n1)) + 1) (by omega)
            exact ⟨P1, n1, _, by omega, hn1, ha, Or.inl ⟨by rw [okE]; simp [c9], rfl, sf2, k0.symm, i0.symm, rfl, lnE.symm, by rw [ofE]; rfl, fun _ => rfl, fun e => absurd (Or.inr (Or.inr ⟨by omega, c9⟩)) e⟩⟩
      rw [eb] at key
      by_cases c3 : b = 221
      · subst c3
        rw [if_pos rfl] at ha
        rw [if_pos (show Int32.ofNat 221 = 221 from rfl)]
        exact key 3 5 1 (Or.inl ⟨rfl, rfl, rfl⟩) ha
      · have d3 := p_ofni b hb 221 (by omega) c3
        rw [if_neg c3] at ha
        rw [if_neg (show ¬ Int32.ofNat b = 221 from d3)]
        by_cases c4 : b = 253
        · subst c4
          rw [if_pos rfl] at ha
          rw [if_pos (show Int32.ofNat 253 = 253 from rfl)]
          exact key 4 6 2 (Or.inr ⟨rfl, rfl, rfl⟩) ha
        · have d4 := p_ofni b hb 253 (by omega) c4
          rw [if_neg c4] at ha
          rw [if_neg (show ¬ Int32.ofNat b = 253 from d4)]
          rw [eb] at sf0
          exact ⟨0, b, _, by omega, hb, ha, Or.inl ⟨by simp [p_ok, c1, c2, c3, c4], rfl, sf0, rfl, rfl, rfl, rfl, rfl, fun e => absurd e (by omega), fun _ => rfl⟩⟩
