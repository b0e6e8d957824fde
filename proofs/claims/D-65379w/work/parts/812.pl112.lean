set_option maxRecDepth 100000
set_option maxHeartbeats 4000000
/-! The plain law: forge. -/
theorem j_b {σ : fv_S} {ks ns kd nd k : Nat} (h1 : k ≤ ns) (h2 : k ≤ nd) (h3 : k ≤ 65536) (hf : ∀ i, i < k → p_se (fv_gw σ ks i) = fv_gw σ ks i) : ∃ g : Nat → Int32, fv_jcb ks ns kd nd 0 0 (Int32.ofNat k) σ = fv_rv (fv_sw σ kd g) ∧ ∀ i, g i = if i < k then fv_gw σ ks i else fv_gw σ kd i := by
  have z : (0 : Int32).toNatClampNeg = 0 := by decide
  have kk : (Int32.ofNat k).toNatClampNeg = k := p_cl k (by omega)
  refine ⟨va_cpy (fv_gw σ ks) (fv_gw σ kd) 0 0 k, ?_, fun i => ?_⟩
  · have hfit : fv_jfit (fv_gw σ ks) 0 (Int32.ofNat k) := by
      intro i hi
      rw [kk] at hi
      rw [z, Nat.zero_add]
      exact p_fit (hf i hi)
    unfold fv_jcb
    rw [if_pos ⟨⟨by decide, by decide, fun e => by have := (p_ltN k 0 (by omega) (by omega)).1 e; omega, by rw [z, kk]; omega, by rw [z, kk]; omega⟩, hfit⟩, z, kk]
  · show (if 0 ≤ i ∧ i < 0 + k then fv_gw σ ks (0 + (i - 0)) else fv_gw σ kd i) = _
    by_cases c : i < k
    · rw [if_pos ⟨Nat.zero_le _, by omega⟩, if_pos c, Nat.zero_add, Nat.sub_zero]
    · rw [if_neg (fun e => c (by omega)), if_neg c]
theorem j_i {σ : fv_S} {ks ns kd nd k : Nat} (h1 : k ≤ ns) (h2 : k ≤ nd) (h3 : k ≤ 65536) : ∃ g : Nat → Int32, fv_jci ks ns kd nd 0 0 (Int32.ofNat k) σ = fv_rv (fv_sw σ kd g) ∧ ∀ i, g i = if i < k then fv_gw σ ks i else fv_gw σ kd i := by
  have z : (0 : Int32).toNatClampNeg = 0 := by decide
  have kk : (Int32.ofNat k).toNatClampNeg = k := p_cl k (by omega)
  refine ⟨va_cpy (fv_gw σ ks) (fv_gw σ kd) 0 0 k, ?_, fun i => ?_⟩
  · unfold fv_jci
    rw [if_pos ⟨by decide, by decide, fun e => by have := (p_ltN k 0 (by omega) (by omega)).1 e; omega, by rw [z, kk]; omega, by rw [z, kk]; omega⟩, z, kk]
  · show (if 0 ≤ i ∧ i < 0 + k then fv_gw σ ks (0 + (i - 0)) else fv_gw σ kd i) = _
    by_cases c : i < k
    · rw [if_pos ⟨Nat.zero_le _, by omega⟩, if_pos c, Nat.zero_add, Nat.sub_zero]
    · rw [if_neg (fun e => c (by omega)), if_neg c]
/-- what the assembler does between keeps the invariant -/
theorem pI_fr {σ τ σ' τ' : fv_S} (h : pI σ τ) (f : xFq σ σ') (g : mFq2 τ τ') : pI σ' τ' := by
  have fi := f.1
  have fw := f.2.2
  have gi := g.1
  have gw := g.2.2.1
  refine pI_gen h (fun k hk => fi k (by omega) (by omega) (by omega)) (fun k hk => fw k (by omega)) (by show σ'.2.1 4366 = _; rw [f.2.1.1]) (fun k hk => gi k (by omega)) (fun k hk => gw k (by omega)) (g.2.1 86 (by omega)) ?_ ?_ ?_
  · obtain ⟨n, a1, a2, a3, a4⟩ := h.2.2.1
    exact ⟨n, a1, (fi 1665 (by omega) (by omega) (by omega)).trans a2, (gi 1 (by omega)).trans a3, by rw [fw 14 (by omega), gw 1 (by omega)]; exact a4⟩
  · obtain ⟨n, a1, a2, a3, a4⟩ := h.2.2.2.2.2.1
    exact ⟨n, a1, (fi 3841 (by omega) (by omega) (by omega)).trans a2, (gi 68 (by omega)).trans a3, by rw [fw 31 (by omega), gw 21 (by omega)]; exact a4⟩
  · have hb := h.2.2.2.2.2.2
    intro k hk i
    by_cases c : k = 17
    · subst c; exact f.2.1.2 (hb 17 hk) i
    · rw [fw k (by unfold p_bn at hk; omega)]; exact hb k hk i
theorem pI_ft {σ τ : fv_S} (h : pI σ τ) (a b : Int32) : pI (fv_si (fv_si σ 9 a) 10 b) (fv_si (fv_si τ 46 a) 47 b) := by
  obtain ⟨q, f, s, l, t, w, b'⟩ := h
  refine ⟨pMQ_si (pMQ_si q 9 a (by omega) 46 a (by omega)) 10 b (by omega) 47 b (by omega), pFm_c f rfl (fun _ _ _ => rfl), s, l, ⟨rfl, rfl, t.2.2.1, t.2.2.2.1, t.2.2.2.2⟩, w, b'⟩
/-- the source as octets -/
theorem s_B {σ τ : fv_S} (h : pSrc σ τ) : ∃ (B : Nat → Nat) (n : Nat), qS B n ∧ fv_gi σ 1665 = Int32.ofNat n ∧ (∀ i, i < n → fv_gw σ 14 i = p_se (Int32.ofNat (B i))) ∧ qM B n τ := by
  obtain ⟨n, a1, a2, a3, a4⟩ := h
  have e : ∀ i, i < n → ∃ m, m < 256 ∧ fv_gw τ 1 i = Int32.ofNat m := fun i hi => pb_n (a4 i hi).1
  have key : ∀ i, i < n → (fv_gw τ 1 i).toNatClampNeg < 256 ∧ fv_gw τ 1 i = Int32.ofNat (fv_gw τ 1 i).toNatClampNeg := fun i hi => by
    obtain ⟨m, hm, em⟩ := e i hi
    rw [em, p_clN m (by omega)]; exact ⟨hm, rfl⟩
  refine ⟨fun i => if i < n then (fv_gw τ 1 i).toNatClampNeg else 10, n, ⟨a1, fun i => ?_, fun i hi => if_neg (by omega)⟩, a2, fun i hi => ?_, a3, fun i hi => ?_⟩
  · show (if i < n then (fv_gw τ 1 i).toNatClampNeg else 10) < 256
    split
    · rename_i hi; exact (key i hi).1
    · omega
  · show fv_gw σ 14 i = p_se (Int32.ofNat (if i < n then (fv_gw τ 1 i).toNatClampNeg else 10))
    rw [if_pos hi, ← (key i hi).2]; exact (a4 i hi).2
  · show fv_gw τ 1 i = Int32.ofNat (if i < n then (fv_gw τ 1 i).toNatClampNeg else 10)
    rw [if_pos hi]; exact (key i hi).2
theorem d_forge {σ τ : fv_S} (h : pI σ τ) : ∃ w σ' τ', zX0_forge 70000 σ = fv_ri w σ' ∧ zX8_forge 70000 τ = fv_ri w τ' ∧ pI σ' τ' ∧ fv_n σ' ≤ fv_n σ + 2 ∧ fv_n τ' = fv_n τ := by
  obtain ⟨B, n, hS, s1, s2, s3⟩ := s_B h.2.2.1
  have hn := hS.1
  have hN : 70000 ≤ 70000 := Nat.le_refl _
  -- the machine's memory
  have rm : pRm (fv_gw σ 35) (fv_gw τ 13) := by
    obtain ⟨_, _, _, _, m, _⟩ := h.1
    exact m
  have mk : ∀ a, a < 65536 → (fv_gw τ 13 a).toNatClampNeg < 256 ∧ fv_gw τ 13 a = Int32.ofNat (fv_gw τ 13 a).toNatClampNeg := fun a ha => by
    obtain ⟨m, hm, em⟩ := pb_n (rm a ha).1
    rw [em, p_clN m (by omega)]; exact ⟨hm, rfl⟩
  generalize hMm : ((fun a => if a < 65536 then (fv_gw τ 13 a).toNatClampNeg else 0, 0, 0) : qMem) = Mm
  have Mm1 : ∀ a, a < 65536 → Mm.1 a = (fv_gw τ 13 a).toNatClampNeg := fun a ha => by rw [← hMm]; exact if_pos ha
  have Mm2 : Mm.2.1 = 0 ∧ Mm.2.2 = 0 := by rw [← hMm]; exact ⟨rfl, rfl⟩
  have Mmo : qMo Mm := fun a => by
    by_cases c : a < 65536
    · rw [Mm1 a c]; exact (mk a c).1
    · rw [← hMm]; show (if a < 65536 then (fv_gw τ 13 a).toNatClampNeg else 0) < 256; rw [if_neg c]; omega
  clear hMm
  -- the model begins
  obtain ⟨t1, y1, b1, b2, b3, b4, b5⟩ := m_17 70000 65536 0 70000 (fv_si (fv_si (fv_si τ 8 0) 13 0) 42 0) rfl (by omega) (by omega) (fun i hi => by omega)
  have tg : ∀ k, k ≠ 8 → k ≠ 13 → k ≠ 42 → fv_gi t1 k = fv_gi τ k := fun k a b c => by show t1.1 k = _; rw [b1]; exact (if_neg c).trans ((if_neg b).trans (if_neg a))
  have tq : mFq2 τ t1 := ⟨fun k hk => tg k (by omega) (by omega) (by omega), fun k _ => by show t1.2.1 k = _; rw [b2]; rfl, fun a ha => b4 a (by omega), b3⟩
  have t8 : fv_gi t1 8 = 0 := by show t1.1 8 = _; rw [b1]; rfl
  have t13 : fv_gi t1 13 = 0 := by show t1.1 13 = _; rw [b1]; rfl
  have t42 : fv_gi t1 42 = q01 false := by show t1.1 42 = _; rw [b1]; rfl
  have tM : qM B n t1 := ⟨(tg 1 (by omega) (by omega) (by omega)).trans s3.1, by rw [b4 1 (by omega)]; exact s3.2⟩
  have tm : ∀ a, a < 65536 → fv_gw t1 14 a = Int32.ofNat (Mm.1 a) := fun a ha => by rw [b5 a ha, Mm1 a ha]; exact (mk a ha).2
  have R1m := m_pas (N := 70000) (sec := false) (L := []) (M := Mm) hS hN tM ⟨t13, by show (0 : Nat) ≤ 200; omega, fun i e he => absurd he (by simp)⟩ t42 t8 (fun e => absurd e (by decide)) (fun e => absurd e (by decide))
  -- the class begins
  have sq : xFq σ (fv_si (fv_si (fv_si (fv_si σ 2051 0) 1547 0) 1546 0) 1542 0) := xFq_si (xFq_si (xFq_si (xFq_si (xFq_r σ) 2051 _ (by omega)) 1547 _ (by omega)) 1546 _ (by omega)) 1542 _ (by omega)
  have R1x := x_pas (N := 70000) (sec := false) (L := []) (M := Mm) (σ := fv_si (fv_si (fv_si (fv_si σ 2051 0) 1547 0) 1546 0) 1542 0) hS hN s1 s2 ⟨rfl, by show (0 : Nat) ≤ 200; omega, fun i e he => absurd he (by simp)⟩ rfl rfl rfl (pFm_c h.2.1 rfl (fun _ _ _ => rfl)) (fun e => absurd e (by decide)) (fun e => absurd e (by decide))
  unfold zX0_forge zX3_forge zX8_forge
  rw [show zX8_forge_17 70000 70000 0 (fv_si (fv_si (fv_si τ 8 0) 13 0) 42 0) = _ from y1]
  -- a fault
  have flt : ∀ (g : Nat × Nat × Nat) (x : fv_S) (t : fv_S), xFq σ x → fv_n x ≤ fv_n σ + 2 → fv_gi x 1544 = Int32.ofNat g.1 → mFq2 τ t → fv_gi t 8 = Int32.ofNat g.2.1 → fv_gi t 9 = Int32.ofNat g.2.2 → fv_gi t 41 = Int32.ofNat g.1 → ∃ w σ' τ', fv_ri (-10 - Int32.ofNat g.2.1) (fv_si (fv_si x 9 (fv_gi x 1544)) 10 (Int32.ofNat g.2.2)) = fv_ri w σ' ∧ zX8_forge_70 70000 0 t = fv_ri w τ' ∧ pI σ' τ' ∧ fv_n σ' ≤ fv_n σ + 2 ∧ fv_n τ' = fv_n τ := by
    intro g x t fx nx e44 ft e8 e9 e41
    unfold zX8_forge_70
    rw [if_neg (show ¬ ¬ (0 : Int32) = 0 from not_not_intro rfl), e8, e9, e41, e44]
    exact ⟨_, _, _, rfl, rfl, pI_ft (pI_fr h fx ft) _ _, nx, ft.2.2.2⟩
  cases hr1 : qPs B n false 302 0 0 [] 0 [] Mm with
  | inl g =>
    rw [hr1] at R1m R1x
    obtain ⟨x, x1, x2, x3, x4⟩ := R1x
    obtain ⟨t, u1, u2, u3, u4, u5⟩ := R1m
    rw [show zX3_pass 70000 0 (fv_si (fv_si (fv_si (fv_si σ 2051 0) 1547 0) 1546 0) 1542 0) = _ from x1, fv_bv_th, fv_bv_th, u1, fv_bi_ri, if_pos rfl]
    exact flt g x t (xFq_t sq x3) x2 x4 (mFq2_t tq u4) u2 u3 u5
  | inr r =>
    rw [hr1] at R1m R1x
    obtain ⟨x, x1, x2, x3, x4, x5, _⟩ := R1x
    obtain ⟨t, u1, u2, u3, u4, _, u5⟩ := R1m
    have u5 := u5 rfl
    have fx := xFq_t sq x3
    have ft := mFq2_t tq u2
    have I1 := pI_fr h fx ft
    rw [show zX3_pass 70000 0 (fv_si (fv_si (fv_si (fv_si σ 2051 0) 1547 0) 1546 0) 1542 0) = _ from x1, fv_bv_rv, u1, fv_bi_ri, if_neg (show ¬ (1 : Int32) = 0 by decide)]
    -- memory is copied in the class
    have w35 : fv_gw x 35 = fv_gw σ 35 := fx.2.2 35 (by omega)
    have pse : ∀ b, b < 256 → p_se (p_se (Int32.ofNat b)) = p_se (Int32.ofNat b) := by decide +kernel
    obtain ⟨G, j1, j2⟩ := j_b (σ := x) (ks := 35) (ns := 65536) (kd := 20) (nd := 65536) (k := 65536) (by omega) (by omega) (by omega) (fun i hi => by
      rw [w35, (rm i hi).2, (mk i hi).2]
      exact pse _ (mk i hi).1)
    rw [show fv_jcb 35 65536 20 65536 0 0 65536 x = _ from j1, fv_bv_rv]
    have fx2 : xFq σ (fv_sw x 20 G) := xFq_t fx ⟨fun _ _ _ _ => rfl, ⟨rfl, xB17_e (s_wn _ _ _ _ (by omega))⟩, fun a ha => s_wn _ _ _ _ (by omega)⟩
    have w20 : ∀ a, a < 65536 → fv_gw (fv_sw x 20 G) 20 a = p_se (Int32.ofNat (Mm.1 a)) := fun a ha => by
      rw [s_wk, j2, if_pos ha, w35, (rm a ha).2, Mm1 a ha, ← (mk a ha).2]
    have hL : xL r.2.1 (fv_sw x 20 G) := by
      obtain ⟨l1, l2, l3⟩ := x4.2.1
      refine ⟨l1, l2, ?_⟩
      rw [s_wn _ _ _ _ (by omega), s_wn _ _ _ _ (by omega), s_wn _ _ _ _ (by omega)]; exact l3
    have q4 := x4.2.2.2.1
    have hGd : ∃ L1 M1 r', qPs B n false 302 0 0 L1 0 [] M1 = .inr r' ∧ r'.2.1 = r.2.1 := ⟨[], Mm, r, hr1, rfl⟩
    have R2x := x_pas (N := 70000) (sec := true) (L := r.2.1) (M := Mm) (σ := fv_sw x 20 G) hS hN ((fx.1 1665 (by omega) (by omega) (by omega)).trans s1) (fun i hi => by rw [s_wn _ _ _ _ (by omega), fx.2.2 14 (by omega)]; exact s2 i hi) hL q4.1 (q4.2 rfl).1 (q4.2 rfl).2 (pFm_c I1.2.1 rfl (fun k a b => s_wn _ _ _ _ (by omega))) (fun _ => ⟨w20, Mm2⟩) (fun _ => hGd)
    have u3m := u3
    have tL : mL r.2.1 (fv_si (fv_si (fv_si t 42 1) 39 0) 40 0) := ⟨u3m.2.1.1, u3m.2.1.2⟩
    have tQ : qM B n (fv_si (fv_si (fv_si t 42 1) 39 0) 40 0) := ⟨u3m.1.1, u3m.1.2⟩
    have R2m := m_pas (N := 70000) (sec := true) (L := r.2.1) (M := Mm) (τ := fv_si (fv_si (fv_si t 42 1) 39 0) 40 0) hS hN tQ tL rfl u3m.2.2.2.2.2.1 (fun _ => ⟨⟨fun a ha => by
      show fv_gw t 14 a = _
      rw [u5.1]; exact tm a ha, by rw [Mm2.1]; rfl, by rw [Mm2.2]; rfl⟩, Mm2.1⟩) (fun _ => hGd)
    have ft2 : mFq2 τ (fv_si (fv_si (fv_si t 42 1) 39 0) 40 0) := mFq2_si (mFq2_si (mFq2_si ft 42 _ (by omega)) 39 _ (by omega)) 40 _ (by omega)
    have nx : fv_n (fv_sw x 20 G) = fv_n σ := x2
    cases hr2 : qPs B n true 302 0 0 r.2.1 0 [] Mm with
    | inl g =>
      rw [hr2] at R2m R2x
      obtain ⟨x', v1, v2, v3, v4⟩ := R2x
      obtain ⟨t', c1, c2, c3, c4, c5⟩ := R2m
      rw [show zX3_pass 70000 1 (fv_sw x 20 G) = _ from v1, fv_bv_th, fv_bv_th, c1, fv_bi_ri]
      exact flt g x' t' (xFq_t fx2 v3) (by omega) v4 (mFq2_t ft2 c4) c2 c3 c5
    | inr r2 =>
      rw [hr2] at R2m R2x
      obtain ⟨x', v1, v2, v3, v4, v5, v6⟩ := R2x
      obtain ⟨t', c1, c2, c3, c4, c5, _⟩ := R2m
      have v6 := v6 rfl
      have c5 := c5 rfl
      have hX := xFq_t fx2 v3
      have hT := mFq2_t ft2 c2
      have I2 := pI_fr h hX hT
      have Mo := q_psM hS _ _ _ _ _ _ _ r2 Mmo hr2
      have Lo1 := q_psO hS _ _ _ _ _ _ _ r (fun e he => absurd he (by simp)) hr1
      have Lo := q_psO hS _ _ _ _ _ _ _ r2 Lo1 hr2
      rw [show zX3_pass 70000 1 (fv_sw x 20 G) = _ from v1, fv_bv_rv, fv_bv_rv, c1, fv_bi_ri]
      -- names are copied in the class
      obtain ⟨l1, l2, l3⟩ := v4.2.1
      have l1 : fv_gi x' 2051 = Int32.ofNat r2.2.1.length := l1
      have l3 : ∀ i e, r2.2.1[i]? = some e → e.1.length ≤ 12 ∧ fv_gw x' 18 i = Int32.ofNat e.1.length ∧ fv_gw x' 19 i = e.2 ∧ ∀ j c, e.1[j]? = some c → fv_gw x' 17 (12 * i + j) = p_se (Int32.ofNat c) ∧ c < 256 := l3
      obtain ⟨k1, k2, k3⟩ := c3.2.1
      have k1 : fv_gi t' 13 = Int32.ofNat r2.2.1.length := k1
      have k3 : ∀ i e, r2.2.1[i]? = some e → e.1.length ≤ 12 ∧ fv_gw t' 3 i = Int32.ofNat e.1.length ∧ fv_gw t' 4 i = e.2 ∧ ∀ j c, e.1[j]? = some c → fv_gw t' 2 (12 * i + j) = Int32.ofNat c ∧ c < 256 := k3
      have h43 : fv_gi x' 1543 = Int32.ofNat r2.2.2.1 := v4.2.2.2.2.1
      have h20 : fv_gi t' 20 = Int32.ofNat r2.2.2.1 := c3.2.2.2.1
      generalize hsx : fv_si (fv_si (fv_si (fv_si (fv_si x' 9 0) 10 0) 11 (fv_gi x' 1544)) 12 (fv_gi x' 1546)) 13 (fv_gi x' 1543) = X
      have Xg : ∀ k, k ≠ 9 → k ≠ 10 → k ≠ 11 → k ≠ 12 → k ≠ 13 → fv_gi X k = fv_gi x' k := fun k a b c d e => by rw [← hsx]; exact (if_neg e).trans ((if_neg d).trans ((if_neg c).trans ((if_neg b).trans (if_neg a))))
      have Xw : ∀ a, fv_gw X a = fv_gw x' a := fun a => by rw [← hsx]; rfl
      have Xl : X.2.1 = x'.2.1 := by rw [← hsx]; rfl
      have Xn : fv_n X = fv_n x' := by rw [← hsx]; rfl
      have X9 : fv_gi X 9 = 0 := by rw [← hsx]; rfl
      have X10 : fv_gi X 10 = 0 := by rw [← hsx]; rfl
      have X11 : fv_gi X 11 = fv_gi x' 1544 := by rw [← hsx]; rfl
      have X12 : fv_gi X 12 = fv_gi x' 1546 := by rw [← hsx]; rfl
      have X13 : fv_gi X 13 = fv_gi x' 1543 := by rw [← hsx]; rfl
      clear hsx
      have e51 : fv_gi X 2051 = Int32.ofNat r2.2.1.length := (Xg 2051 (by omega) (by omega) (by omega) (by omega) (by omega)).trans l1
      unfold zX5_copy
      rw [e51, show (12 : Int32) * Int32.ofNat r2.2.1.length = Int32.ofNat (12 * r2.2.1.length) by rw [Int32.ofNat_mul]; rfl]
      have by17 : ∀ i, p_se (fv_gw x' 17 i) = fv_gw x' 17 i := I2.2.2.2.2.2.2 17 (by unfold p_bn; omega)
      obtain ⟨G1, n1, n2⟩ := j_b (σ := fv_si X 5251 (Int32.ofNat r2.2.1.length)) (ks := 17) (ns := 2400) (kd := 42) (nd := 2400) (k := 12 * r2.2.1.length) (by omega) (by omega) (by omega) (fun i _ => by show p_se (fv_gw X 17 i) = fv_gw X 17 i; rw [Xw]; exact by17 i)
      rw [n1, fv_bv_rv, show fv_gi (fv_sw (fv_si X 5251 (Int32.ofNat r2.2.1.length)) 42 G1) 5251 = Int32.ofNat r2.2.1.length from rfl]
      obtain ⟨G2, o1, o2⟩ := j_i (σ := fv_sw (fv_si X 5251 (Int32.ofNat r2.2.1.length)) 42 G1) (ks := 18) (ns := 200) (kd := 43) (nd := 200) (k := r2.2.1.length) (by omega) (by omega) (by omega)
      rw [o1, fv_bv_rv, show fv_gi (fv_sw (fv_sw (fv_si X 5251 (Int32.ofNat r2.2.1.length)) 42 G1) 43 G2) 5251 = Int32.ofNat r2.2.1.length from rfl]
      obtain ⟨G3, q1, q2⟩ := j_i (σ := fv_sw (fv_sw (fv_si X 5251 (Int32.ofNat r2.2.1.length)) 42 G1) 43 G2) (ks := 19) (ns := 200) (kd := 44) (nd := 200) (k := r2.2.1.length) (by omega) (by omega) (by omega)
      rw [q1, fv_bv_rv, fv_bv_rv]
      generalize hsy : fv_sw (fv_sw (fv_sw (fv_si X 5251 (Int32.ofNat r2.2.1.length)) 42 G1) 43 G2) 44 G3 = Y
      have Yg : ∀ k, k ≠ 5251 → fv_gi Y k = fv_gi X k := fun k hk => by rw [← hsy]; exact if_neg hk
      have Y51 : fv_gi Y 5251 = Int32.ofNat r2.2.1.length := by rw [← hsy]; rfl
      have Yw : ∀ a, a ≠ 42 → a ≠ 43 → a ≠ 44 → fv_gw Y a = fv_gw x' a := fun a h1 h2 h3 => by rw [← hsy, s_wn _ _ _ _ h3, s_wn _ _ _ _ h2, s_wn _ _ _ _ h1]; exact Xw a
      have Y42 : ∀ i, i < 12 * r2.2.1.length → fv_gw Y 42 i = fv_gw x' 17 i := fun i hi => by
        rw [← hsy, s_wn _ _ _ _ (by omega), s_wn _ _ _ _ (by omega), s_wk, n2, if_pos hi]; exact congrFun (Xw 17) i
      have Y43 : ∀ i, i < r2.2.1.length → fv_gw Y 43 i = fv_gw x' 18 i := fun i hi => by
        rw [← hsy, s_wn _ _ _ _ (by omega), s_wk, o2, if_pos hi, s_wn _ _ _ _ (by omega)]; exact congrFun (Xw 18) i
      have Y44 : ∀ i, i < r2.2.1.length → fv_gw Y 44 i = fv_gw x' 19 i := fun i hi => by
        rw [← hsy, s_wk, q2, if_pos hi, s_wn _ _ _ _ (by omega), s_wn _ _ _ _ (by omega)]; exact congrFun (Xw 19) i
      have Yl : Y.2.1 = x'.2.1 := by rw [← hsy]; exact Xl
      have Yn : fv_n Y = fv_n x' := by rw [← hsy]; exact Xn
      clear hsy
      -- memory goes back
      obtain ⟨G4, z1, z2⟩ := j_b (σ := Y) (ks := 20) (ns := 65536) (kd := 35) (nd := 65536) (k := 65536) (by omega) (by omega) (by omega) (fun i hi => by
        rw [Yw 20 (by omega) (by omega) (by omega), v6.1 i hi]; exact pse _ (Mo i))
      rw [show fv_jcb 20 65536 35 65536 0 0 65536 Y = _ from z1, fv_bv_rv]
      -- the model's end
      unfold zX8_forge_70
      rw [if_pos (show ¬ (1 : Int32) = 0 by decide)]
      generalize hst : fv_si (fv_si (fv_si (fv_si (fv_si t' 46 0) 47 0) 48 (fv_gi t' 41)) 49 (fv_gi t' 40)) 50 (fv_gi t' 20) = T
      have Tg : ∀ k, k ≠ 46 → k ≠ 47 → k ≠ 48 → k ≠ 49 → k ≠ 50 → fv_gi T k = fv_gi t' k := fun k a b c d e => by rw [← hst]; exact (if_neg e).trans ((if_neg d).trans ((if_neg c).trans ((if_neg b).trans (if_neg a))))
      have Tw : ∀ a, fv_gw T a = fv_gw t' a := fun a => by rw [← hst]; rfl
      have Tl : T.2.1 = t'.2.1 := by rw [← hst]; rfl
      have Tn : fv_n T = fv_n t' := by rw [← hst]; rfl
      have T46 : fv_gi T 46 = 0 := by rw [← hst]; rfl
      have T47 : fv_gi T 47 = 0 := by rw [← hst]; rfl
      have T48 : fv_gi T 48 = fv_gi t' 41 := by rw [← hst]; rfl
      have T49 : fv_gi T 49 = fv_gi t' 40 := by rw [← hst]; rfl
      have T50 : fv_gi T 50 = fv_gi t' 20 := by rw [← hst]; rfl
      clear hst
      obtain ⟨t2, p1, p2, p3, p4, p5, p6⟩ := m_134 70000 65536 0 70000 T rfl (by omega) (by omega) (fun i hi => by omega)
      have t2g : ∀ k, fv_gi t2 k = fv_gi T k := fun k => by show t2.1 k = _; rw [p2]
      have e13 : fv_gi t2 13 = Int32.ofNat r2.2.1.length := (t2g 13).trans ((Tg 13 (by omega) (by omega) (by omega) (by omega) (by omega)).trans k1)
      rw [show zX8_forge_134 70000 70000 0 T = _ from p1, e13]
      obtain ⟨t3, d1, d2, d3, d4, d5, d6, _, d8, _⟩ := m_168 (N := 70000) (len := r2.2.1.length) (by omega) l2 r2.2.1.length 0 70000 (fv_si t2 51 (Int32.ofNat r2.2.1.length)) rfl (by omega) (by omega) e13
      rw [show zX8_forge_168 70000 70000 0 (fv_si t2 51 (Int32.ofNat r2.2.1.length)) = _ from d1]
      have t3g : ∀ k, k ≠ 51 → fv_gi t3 k = fv_gi T k := fun k hk => by show t3.1 k = _; rw [d2]; exact (if_neg hk).trans (t2g k)
      have t351 : fv_gi t3 51 = Int32.ofNat r2.2.1.length := by show t3.1 51 = _; rw [d2]; rfl
      have t3w : ∀ a, a ≠ 13 → a ≠ 17 → a ≠ 18 → a ≠ 19 → fv_gw t3 a = fv_gw t' a := fun a h0 h1 h2 h3 => (d5 a h1 h2 h3).trans ((p5 a h0).trans (Tw a))
      have t313 : ∀ i, i < 65536 → fv_gw t3 13 i = Int32.ofNat (r2.2.2.2.1 i) := fun i hi => by
        rw [d5 13 (by omega) (by omega) (by omega)]
        show fv_gw t2 13 i = _
        rw [p6 i hi, Tw]; exact c5.1 i hi
      have t2w : ∀ a, a ≠ 13 → fv_gw (fv_si t2 51 (Int32.ofNat r2.2.1.length)) a = fv_gw t' a := fun a ha => (p5 a ha).trans (Tw a)
      have r39 : fv_gi (fv_si t2 51 (Int32.ofNat r2.2.1.length)) 39 = Int32.ofNat r2.2.2.2.2.1 := (t2g 39).trans ((Tg 39 (by omega) (by omega) (by omega) (by omega) (by omega)).trans c5.2.1)
      have r45 : fv_gi (fv_sw Y 35 G4) 1545 = Int32.ofNat r2.2.2.2.2.1 := (Yg 1545 (by omega)).trans ((Xg 1545 (by omega) (by omega) (by omega) (by omega) (by omega)).trans v6.2.1)
      rw [r39, r45]
      have Yx : ∀ k, k ≠ 5251 → k ≠ 9 → k ≠ 10 → k ≠ 11 → k ≠ 12 → k ≠ 13 → fv_gi Y k = fv_gi x' k := fun k h0 h1 h2 h3 h4 h5 => (Yg k h0).trans (Xg k h1 h2 h3 h4 h5)
      have t3t : ∀ k, k ≠ 51 → k ≠ 46 → k ≠ 47 → k ≠ 48 → k ≠ 49 → k ≠ 50 → fv_gi t3 k = fv_gi t' k := fun k h0 h1 h2 h3 h4 h5 => (t3g k h0).trans (Tg k h1 h2 h3 h4 h5)
      refine ⟨_, _, _, rfl, rfl, ⟨?_, ?_, ?_, ?_, ?_, ?_, ?_⟩, ?_, ?_⟩
      · -- machines
        refine pMQ_m I2.1 ?_ (fun k a b => ?_) (fun k a b => Yx k (by omega) (by omega) (by omega) (by omega) (by omega) (by omega)) ?_ (fun k hk => t3w k (by omega) (by omega) (by omega) (by omega)) (fun k hk => t3t k (by omega) (by omega) (by omega) (by omega) (by omega) (by omega)) ?_
        · intro i hi
          rw [s_wk, z2, if_pos hi, Yw 20 (by omega) (by omega) (by omega), v6.1 i hi, t313 i hi]
          have pbb : ∀ b, b < 256 → pb (Int32.ofNat b) := by unfold pb; decide +kernel
          exact ⟨pbb _ (Mo i), rfl⟩
        · rw [s_wn _ _ _ _ (by omega)]; exact Yw k (by omega) (by omega) (by omega)
        · show Y.2.1 4366 = _; rw [Yl]
        · show t3.2.1 86 = _; rw [d3]; show t2.2.1 86 = _; rw [p3, Tl]
      · exact pFm_c I2.2.1 (Yx 391 (by omega) (by omega) (by omega) (by omega) (by omega) (by omega)) (fun k a b => by rw [s_wn _ _ _ _ (by omega)]; exact Yw k (by omega) (by omega) (by omega))
      · obtain ⟨m, a1, a2, a3, a4⟩ := I2.2.2.1
        exact ⟨m, a1, (Yx 1665 (by omega) (by omega) (by omega) (by omega) (by omega) (by omega)).trans a2, (t3t 1 (by omega) (by omega) (by omega) (by omega) (by omega) (by omega)).trans a3, by rw [s_wn _ _ _ _ (by omega), Yw 14 (by omega) (by omega) (by omega), t3w 1 (by omega) (by omega) (by omega) (by omega)]; exact a4⟩
      · refine ⟨r2.2.1.length, l2, Y51, t351, fun i hi => ?_⟩
        rw [s_wn _ _ _ _ (by omega), s_wn _ _ _ _ (by omega), s_wn _ _ _ _ (by omega), Y44 i hi, Y43 i hi]
        have d6i := d6 i (by omega) hi
        rw [d6i.1, d6i.2, t2w 3 (by omega), t2w 4 (by omega)]
        have he : r2.2.1[i]? = some r2.2.1[i] := List.getElem?_eq_getElem hi
        obtain ⟨g1, g2, g3, g4⟩ := l3 i _ he
        obtain ⟨f1, f2, f3, f4⟩ := k3 i _ he
        refine ⟨g3.trans f3.symm, r2.2.1[i].1.length, g1, g2, f2, fun k hk => ?_⟩
        have hc : r2.2.1[i].1[k]? = some r2.2.1[i].1[k] := List.getElem?_eq_getElem hk
        rw [Y42 _ (by omega), d8 _ (by omega) (by omega), t2w 2 (by omega), (g4 k _ hc).1, (f4 k _ hc).1]
        have lo : r2.2.1[i].1[k] < 128 := Lo _ (List.getElem_mem hi) _ (List.getElem_mem hk)
        have : ∀ c, c < 128 → p_se (Int32.ofNat c) = Int32.ofNat c := by decide +kernel
        exact this _ lo
      · refine ⟨?_, ?_, ?_, ?_, ?_⟩
        · rw [show fv_gi (fv_sw Y 35 G4) 9 = fv_gi X 9 from Yg 9 (by omega), X9, t3g 46 (by omega), T46]
        · rw [show fv_gi (fv_sw Y 35 G4) 10 = fv_gi X 10 from Yg 10 (by omega), X10, t3g 47 (by omega), T47]
        · rw [show fv_gi (fv_sw Y 35 G4) 11 = fv_gi X 11 from Yg 11 (by omega), X11, t3g 48 (by omega), T48, v5, c4]
        · rw [show fv_gi (fv_sw Y 35 G4) 12 = fv_gi X 12 from Yg 12 (by omega), X12, t3g 49 (by omega), T49, v6.2.2.2, c5.2.2]
        · rw [show fv_gi (fv_sw Y 35 G4) 13 = fv_gi X 13 from Yg 13 (by omega), X13, t3g 50 (by omega), T50, h43, h20]
      · obtain ⟨m, a1, a2, a3, a4⟩ := I2.2.2.2.2.2.1
        exact ⟨m, a1, (Yx 3841 (by omega) (by omega) (by omega) (by omega) (by omega) (by omega)).trans a2, (t3t 68 (by omega) (by omega) (by omega) (by omega) (by omega) (by omega)).trans a3, by rw [s_wn _ _ _ _ (by omega), Yw 31 (by omega) (by omega) (by omega), t3w 21 (by omega) (by omega) (by omega) (by omega)]; exact a4⟩
      · intro k hk i
        have k35 : k ≠ 35 ∧ k ≠ 42 ∧ k ≠ 43 ∧ k ≠ 44 := by unfold p_bn at hk; omega
        rw [s_wn _ _ _ _ k35.1, Yw k k35.2.1 k35.2.2.1 k35.2.2.2]; exact I2.2.2.2.2.2.2 k hk i
      · show fv_n Y ≤ _
        rw [Yn, v2, nx]; omega
      · rw [d4]
        show fv_n t2 = _
        rw [p4, Tn]; exact hT.2.2.2
