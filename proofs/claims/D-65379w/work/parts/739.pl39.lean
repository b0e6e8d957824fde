set_option maxRecDepth 100000
set_option maxHeartbeats 4000000
/-! The plain law: what stands at an address is written alike. -/
theorem p_sub2 (x : Int32) : x - 1 = x - Int32.ofNat 2 + 1 := by
  rw [Int32.sub_eq_add_neg x 1, Int32.sub_eq_add_neg x (Int32.ofNat 2), Int32.add_assoc]; rfl
theorem p_tXc {f o : Nat} (h : (p_at f).2.1 = o) : ((p_at f).1, o, (p_at f).2.2) = p_at f := by rw [← h]
theorem p_say_lt (c : Int64) : ∀ d, d ∈ p_say c → d < 1000 := by
  have k : ∀ x d, d ∈ p_s1 c x → d < 1000 := by
    intro x d hd
    unfold p_s1 at hd
    split at hd
    · cases hd
    · simp at hd
      have := (p_bnd8 (p_sc_pb c x)).2.2
      omega
  intro d hd
  unfold p_say at hd
  simp only [List.mem_append] at hd
  rcases hd with h | h | h | h | h | h | h | h | h
  · exact k _ d h
  · exact k _ d h
  · exact k _ d h
  · exact k _ d h
  · exact k _ d h
  · exact k _ d h
  · exact k _ d h
  · exact k _ d h
  · cases h
theorem p_dN_lt (n : Nat) : ∀ d, d ∈ p_dN n → d < 1000 := fun d hd => by have := p_dlb n _ d hd; omega
theorem p_nm_lt (s : Nat) (hs : s < 102) : ∀ d, d ∈ p_nm s → d < 1000 := by
  intro d hd
  have l := k_len s hs
  unfold p_nm at hd
  rw [List.mem_map] at hd
  obtain ⟨i, hi, rfl⟩ := hd
  rw [List.mem_range] at hi
  have := (k_ch s hs i (by omega) hi).2.2
  omega
theorem p_xO_lt {ka va : Nat} (h : p_xk ka va) : ∀ d, d ∈ p_xO ka va → d < 1004 := by
  obtain ⟨h1, h2, h3, h4⟩ := h
  intro d hd
  unfold p_xO at hd
  have nm : ∀ s, s < 99 → d ∈ p_nm s → d < 1004 := fun s hs hd => by have := p_nm_lt s (by omega) d hd; omega
  have dn : ∀ n, d ∈ p_dN n → d < 1004 := fun n hd => by have := p_dN_lt n d hd; omega
  by_cases c1 : ka = 1
  · rw [if_pos c1] at hd
    have v8 := h2 (Or.inl c1)
    split at hd
    · simp only [List.mem_append, List.mem_cons, List.not_mem_nil, or_false] at hd
      rcases hd with rfl | hd | rfl
      · omega
      · exact nm 88 (by omega) hd
      · omega
    · exact nm _ (k_nm va v8).1.2 hd
  rw [if_neg c1] at hd
  by_cases c2 : ka = 2
  · rw [if_pos c2] at hd
    exact nm _ (k_nm va (h2 (Or.inr (Or.inl c2)))).2.1.2 hd
  rw [if_neg c2] at hd
  by_cases c3 : ka = 3
  · rw [if_pos c3] at hd
    exact nm _ (k_nm va (h2 (Or.inr (Or.inr (Or.inl c3))))).2.2.1.2 hd
  rw [if_neg c3] at hd
  by_cases c4 : ka = 4
  · rw [if_pos c4] at hd; simp at hd; omega
  rw [if_neg c4] at hd
  by_cases c5 : ka = 5
  · rw [if_pos c5] at hd; simp at hd; omega
  rw [if_neg c5] at hd
  by_cases c6 : ka = 6
  · rw [if_pos c6] at hd; simp at hd; omega
  rw [if_neg c6] at hd
  by_cases c7 : ka = 7
  · rw [if_pos c7] at hd; simp at hd; omega
  rw [if_neg c7] at hd
  by_cases c8 : ka = 8
  · rw [if_pos c8] at hd; simp at hd; omega
  rw [if_neg c8] at hd
  by_cases c9 : ka = 9
  · rw [if_pos c9] at hd
    simp only [List.mem_append, List.mem_cons, List.not_mem_nil, or_false] at hd
    rcases hd with rfl | hd | rfl
    · omega
    · exact nm _ (k_nm va (h2 (Or.inr (Or.inr (Or.inr c9))))).2.2.2.2 hd
    · omega
  rw [if_neg c9] at hd
  by_cases c10 : ka = 10
  · rw [if_pos c10] at hd
    have v8 := h3 (Or.inl c10)
    simp only [List.mem_append, List.mem_cons, List.not_mem_nil, or_false] at hd
    rcases hd with rfl | hd | rfl | rfl
    · omega
    · exact nm (90 + va) (by omega) hd
    · omega
    · omega
  rw [if_neg c10] at hd
  by_cases c14 : ka = 14
  · rw [if_pos c14] at hd
    exact nm (82 + va) (by have := h3 (Or.inr c14); omega) hd
  rw [if_neg c14] at hd
  exact dn va hd
theorem p_tX_lt {m : p_F} (hw : m.2.2.1 < 99) (ka : p_xk m.2.2.2.1 m.2.2.2.2.1) (kb : p_xk m.2.2.2.2.2.1 m.2.2.2.2.2.2) : ∀ d, d ∈ p_tX m → d < 1004 := by
  intro d hd
  unfold p_tX at hd
  rw [List.mem_append] at hd
  rcases hd with hd | hd
  · have := p_nm_lt _ (by omega) d hd; omega
  · have B : d ∈ (if m.2.2.2.2.2.1 = 0 then [] else [44] ++ p_xO m.2.2.2.2.2.1 m.2.2.2.2.2.2) → d < 1004 := by
      intro hd
      split at hd
      · cases hd
      · simp only [List.mem_append, List.mem_cons, List.not_mem_nil, or_false] at hd
        rcases hd with rfl | hd
        · omega
        · exact p_xO_lt kb d hd
    split at hd
    · exact B hd
    · rw [List.mem_append, List.mem_append] at hd
      rcases hd with hd | hd | hd
      · simp at hd; omega
      · exact p_xO_lt ka d hd
      · exact B hd
theorem c_wrx {σ τ : fv_S} (n : Nat) (hM : pMQ (fv_si σ 3841 0) (fv_si τ 66 0)) (hF : pFm (fv_si σ 3841 0)) (hB : ∀ i, p_se (fv_gw σ 31 i) = fv_gw σ 31 i) {a : Int32} (wa : pw a) :
    ∃ len σ' τ1 τ' t, zX6_write_30 (n + 20) a σ = fv_ri len σ' ∧ zX8_writeAt (n + 20) a τ = fv_ri len τ' ∧ pSx (fv_si σ 3841 0) σ' ∧ pWx σ' t ∧ pSF (fv_si τ 66 0) τ1 ∧ pSm τ1 τ' ∧ pWm τ' t ∧ t.length ≤ 18 := by
  obtain ⟨r, hr, h⟩ := pMQ_o hM
  have sx0 : pSx (fv_si σ 3841 0) (fv_si σ 3841 0) := pSx_r _ hB
  have wx0 : pWx (fv_si σ 3841 0) [] := ⟨by simp, rfl, fun i hi => absurd hi (by simp)⟩
  obtain ⟨P, o, τ1, hP, ho, hat, hd⟩ := c_dec h wa
  rcases hd with ⟨ok, hdec, hdc⟩ | ⟨nok, hdec, sf⟩
  · obtain ⟨m, em, f0, cT, cS, cw, cka, ckb, cbh, cz, cix, cml⟩ := ck_of hP ho ok
    obtain ⟨f, hf, ef, ff, f1, f2⟩ := t_by hF hP ho f0
    have emf : p_at f = m := by rw [← em, ef]; rfl
    subst emf
    rw [p_tXc f2] at cT cS cbh cml
    obtain ⟨sf, d59, d60, d61, d63, d64, d62, d62n⟩ := hdc
    generalize hA : fv_si σ 3841 0 = A at *
    generalize hBB : fv_si τ 66 0 = B at *
    obtain ⟨n2, hn2, e2⟩ := pb_n (x_m h (a + 2)).2
    obtain ⟨w8, h8, e8⟩ := pb_n (x_m h (a + p_ofP P o)).2
    obtain ⟨wh, hh, eh⟩ := pb_n (x_m h (a + p_ofP P o + 1)).2
    obtain ⟨k16, h16, e16⟩ := pw_n (pw_or (pw_b (p_ofN w8 h8)) (pw_shl (p_ofN wh hh)))
    obtain ⟨kn, hn, en⟩ := pw_n (pw_a ((a + p_lnP P o) + p_se (Int32.ofNat w8)))
    have hnd : ∃ nd, nd < 256 ∧ fv_gi τ1 62 = p_se (Int32.ofNat nd) ∧ ((P = 5 ∨ P = 6 ∨ ((P = 3 ∨ P = 4) ∧ p_hp (Int32.ofNat o) = 1)) → nd = n2) := by
      by_cases c : P = 5 ∨ P = 6 ∨ ((P = 3 ∨ P = 4) ∧ p_hp (Int32.ofNat o) = 1)
      · exact ⟨n2, hn2, by rw [d62 c, e2], fun _ => rfl⟩
      · exact ⟨0, by omega, by rw [d62n c]; decide, fun e => absurd e c⟩
    obtain ⟨nd, hnd, ed, end2⟩ := hnd
    have hE : ∃ E : Nat → List Nat, E 0 = p_dN k16 ∧ E 1 = p_dN w8 ∧ E 2 = p_dN kn ∧ E 3 = p_sd nd := ⟨fun j => if j = 0 then p_dN k16 else if j = 1 then p_dN w8 else if j = 2 then p_dN kn else p_sd nd, rfl, rfl, rfl, rfl⟩
    obtain ⟨E, E0, E1, E2, E3⟩ := hE
    have em2 : pEm τ1 E a (p_i60 P) := by
      refine ⟨d60, fun _ => by rw [ed]; exact p_hD_of hnd E3, ⟨k16, h16, ?_, E0⟩, ⟨w8, h8, ?_, E1⟩, ⟨kn, hn, ?_, E2⟩⟩
      · rw [d64, sf_pm sf, sf_pm sf, e8, eh, e16]
      · rw [d64, sf_pm sf, e8]
      · rw [d64, d63, sf_pm sf, e8, en]
    have rl : (p_ren E (p_tX (p_at f))).length ≤ 18 := by
      refine Nat.le_trans (p_rl E ?_ ?_ ?_ ?_ _ (p_tX_lt cw cka ckb)) cml
      · rw [E0]; exact (p_dNl k16).1
      · rw [E1]; exact (p_dNl w8).2 h8
      · rw [E2]; exact (p_dNl kn).1
      · rw [E3]; unfold p_sd
        split
        · have := (p_dNl nd).2 hnd; simp only [List.length_cons]; omega
        · have := (p_dNl (256 - nd)).2 (by omega); simp only [List.length_cons]; omega
    -- the model
    have wm0 : pWm τ1 [] := ⟨by simp, by rw [show fv_gi τ1 66 = fv_gi B 66 from sf.1 66 (by omega), ← hBB]; rfl, fun i hi => absurd hi (by simp)⟩
    have uat := u_at (n + 10) em2 d61 d59
    rw [← cT] at uat
    obtain ⟨τ', xm, sm, wm⟩ := uat τ1 [] (pSm_r τ1) wm0 (by simp only [List.length_nil]; omega)
    rw [List.nil_append] at wm
    have M : zX8_writeAt (n + 20) a τ = fv_ri (p_lnP P o) τ' := by
      rw [m_wat (n + 20) a τ τ1 (by rw [hBB]; exact hdec)]
      rw [show ((fun σ1 => if ¬ (fv_gi σ1 59) = (1 : Int32) then _ else _) τ1) = fv_rv τ' from xm, fv_bv_rv]
      unfold p_fin
      rw [sm.1 63 (by omega), d63]
    -- the class
    have bl : pb (p_m B ((a + p_lnP P o) - (Int32.ofNat (p_bh (p_at f).2.2.2.1) + Int32.ofNat (p_bh (p_at f).2.2.2.2.2.1)))) := (x_m h _).2
    have pos : p_bh (p_at f).2.2.2.1 + p_bh (p_at f).2.2.2.2.2.1 ≠ 0 → (a + p_lnP P o) - (Int32.ofNat (p_bh (p_at f).2.2.2.1) + Int32.ofNat (p_bh (p_at f).2.2.2.2.2.1)) = a + p_ofP P o := by
      intro nz
      rcases cbh with c | ⟨c1, c2⟩
      · exact absurd c nz
      · rw [← cS, ← c1, ← Int32.ofNat_add]
        have : Int32.ofNat (p_sz (p_at f)) = Int32.ofNat (p_sz (p_at f) - (p_bh (p_at f).2.2.2.1 + p_bh (p_at f).2.2.2.2.2.1)) + Int32.ofNat (p_bh (p_at f).2.2.2.1 + p_bh (p_at f).2.2.2.2.2.1) := by rw [← Int32.ofNat_add]; congr 1; omega
        rw [this, ← Int32.add_assoc, Int32.add_sub_cancel]
    have pos2 : p_bh (p_at f).2.2.2.1 + p_bh (p_at f).2.2.2.2.2.1 = 2 → (a + p_lnP P o) - 1 = a + p_ofP P o + 1 := by
      intro e
      have q := pos (by omega)
      rw [← Int32.ofNat_add, e] at q
      rw [← q]
      show a + p_lnP P o - 1 = a + p_lnP P o - Int32.ofNat 2 + 1
      exact p_sub2 _
    obtain ⟨num, enum, na, nb⟩ := num_ok (E := E) (ka := (p_at f).2.2.2.1) (kb := (p_at f).2.2.2.2.2.1) (low := p_m B ((a + p_lnP P o) - (Int32.ofNat (p_bh (p_at f).2.2.2.1) + Int32.ofNat (p_bh (p_at f).2.2.2.2.2.1)))) (hi := p_m B ((a + p_lnP P o) - 1)) (a := a) (L := p_lnP P o) h8 h16 hn bl cz
      (fun nz => by rw [pos nz, e8]) (fun e => by rw [pos (by omega), pos2 e, e8, eh, e16]) (fun nz => by rw [pos nz, e8, en]) E0 E1 E2 cka.1 ckb.1
    have hdd : (p_at f).2.2.2.1 = 10 ∨ (p_at f).2.2.2.2.2.1 = 10 → p_hD E (p_se (Int32.ofNat n2)) := by
      intro e
      rw [← end2 (cix e)]; exact p_hD_of hnd E3
    obtain ⟨σ', xx, sx, wx⟩ := wx_f n hF hf cw cka ckb (many := p_lnP P o) na nb hdd sx0 wx0 (by simp only [List.length_nil]; omega)
    rw [List.nil_append] at wx
    refine ⟨p_lnP P o, σ', τ1, τ', _, ?_, M, sx, wx, sf, sm, wm, rl⟩
    obtain ⟨a1, a2, a3, a4, a5, a6, a7⟩ := pFm_at hF hf
    obtain ⟨i1, i2⟩ := p_inN f 900 (by omega) (by omega)
    have g5 : fv_ga A 5 (Int32.ofNat f) = Int32.ofNat (p_at f).2.2.2.1 := by show fv_gw A 5 (Int32.ofNat f).toNatClampNeg = _; rw [i2]; exact a4
    have g7 : fv_ga A 7 (Int32.ofNat f) = Int32.ofNat (p_at f).2.2.2.2.2.1 := by show fv_gw A 7 (Int32.ofNat f).toNatClampNeg = _; rw [i2]; exact a6
    have z0 : (0 : Int32) ≤ Int32.ofNat f := by rw [p_le, p_ofn f (by omega)]; show (0 : Int) ≤ _; omega
    unfold zX6_write_30
    rw [hA, hat, ff, fv_bi_ri, if_pos z0, x_size hF hf (by omega) cka.1 ckb.1, cS, fv_bi_ri, if_pos i1, xo_m h, fv_bi_ri, if_pos i1, if_pos i1, g5, g7, x_beh cka.1, fv_bi_ri, x_beh ckb.1, fv_bi_ri, xo_m h, fv_bi_ri, e2]
    have k142 : ∀ s0, (s0 = if p_bh (p_at f).2.2.2.1 + p_bh (p_at f).2.2.2.2.2.1 = 2 then (p_m B ((a + p_lnP P o) - (Int32.ofNat (p_bh (p_at f).2.2.2.1) + Int32.ofNat (p_bh (p_at f).2.2.2.2.2.1))) ||| (p_m B ((a + p_lnP P o) - 1) <<< (8 : Int32))) else p_m B ((a + p_lnP P o) - (Int32.ofNat (p_bh (p_at f).2.2.2.1) + Int32.ofNat (p_bh (p_at f).2.2.2.2.2.1)))) → zX6_write_30_142 (n + 20) a (Int32.ofNat f) (p_lnP P o) ((Int32.toInt8 (Int32.ofNat n2)).toInt32) (Int32.ofNat (p_at f).2.2.2.1) (Int32.ofNat (p_at f).2.2.2.2.2.1) (p_m B ((a + p_lnP P o) - (Int32.ofNat (p_bh (p_at f).2.2.2.1) + Int32.ofNat (p_bh (p_at f).2.2.2.2.2.1)))) s0 A = fv_ri (p_lnP P o) σ' := by
      intro s0 hs0
      unfold zX6_write_30_142 zX6_write_30_158
      have lt6a : (Int32.ofNat (p_at f).2.2.2.1 = 6) = ((p_at f).2.2.2.1 = 6) := p_lit (by have := cka.1; omega) 6 (by omega)
      have lt6b : (Int32.ofNat (p_at f).2.2.2.2.2.1 = 6) = ((p_at f).2.2.2.2.2.1 = 6) := p_lit (by have := ckb.1; omega) 6 (by omega)
      simp only [lt6a, lt6b]
      by_cases ca : (p_at f).2.2.2.1 = 6
      · rw [if_pos (Or.inl ca)] at enum
        rw [if_pos ca]; subst enum; exact xx
      · rw [if_neg ca]
        by_cases cb : (p_at f).2.2.2.2.2.1 = 6
        · rw [if_pos (Or.inr cb)] at enum
          rw [if_neg (not_not_intro cb)]; subst enum; exact xx
        · rw [if_neg (fun e => by rcases e with e | e; exact ca e; exact cb e)] at enum
          rw [if_pos cb, hs0, ← enum]; exact xx
    by_cases c2 : p_bh (p_at f).2.2.2.1 + p_bh (p_at f).2.2.2.2.2.1 = 2
    · have cc : Int32.ofNat (p_bh (p_at f).2.2.2.1) + Int32.ofNat (p_bh (p_at f).2.2.2.2.2.1) = 2 := by rw [← Int32.ofNat_add, c2]; rfl
      rw [if_neg (not_not_intro cc), xo_m h, fv_bi_ri]
      exact k142 _ (by rw [if_pos c2])
    · have bb : ∀ k, p_bh k ≤ 2 := by intro k; unfold p_bh; split; omega; split <;> omega
      have cc : ¬ Int32.ofNat (p_bh (p_at f).2.2.2.1) + Int32.ofNat (p_bh (p_at f).2.2.2.2.2.1) = 2 := by
        rw [← Int32.ofNat_add]
        have b1 := bb (p_at f).2.2.2.1
        have b2 := bb (p_at f).2.2.2.2.2.1
        intro e
        exact c2 ((p_ofeq (v := (2 : Int32)) (by omega) 2 (by omega) rfl).1 e)
      rw [if_pos cc]
      exact k142 _ (by rw [if_neg c2])
  · have fd0 : p_FD (256 * P + o) = 0 := by
      have c := t_chk P hP o ho
      unfold p_chk at c
      rw [if_neg (by rw [nok]; decide)] at c
      exact Nat.eq_of_beq_eq_true c
    have fm1 : fv_gw (fv_si σ 3841 0) 11 (256 * P + o) = -1 := by rw [hF.2.2 _ (by omega), fd0]; decide
    generalize hA : fv_si σ 3841 0 = A at *
    generalize hBB : fv_si τ 66 0 = B at *
    obtain ⟨w8, h8, e8⟩ := pb_n (x_m h a).2
    have E : Nat → List Nat := fun _ => []
    have wm0 : pWm τ1 [] := ⟨by simp, by rw [show fv_gi τ1 66 = fv_gi B 66 from sf.1 66 (by omega), ← hBB]; rfl, fun i hi => absurd hi (by simp)⟩
    have l1 : (p_nm 99).length = 3 := by decide
    have l2 := (p_dNl w8).2 h8
    obtain ⟨σ1, x1, s1, w1⟩ := vx_tx A E n 99 (by omega) A [] sx0 wx0 (by rw [p_ren_lit E _ (p_nm_lt 99 (by omega))]; simp only [List.length_nil]; omega)
    rw [p_ren_lit E _ (p_nm_lt 99 (by omega)), List.nil_append] at w1
    obtain ⟨σ2, x2, s2, w2⟩ := tx_num A (n + 20) w8 (by omega) (by omega) σ1 _ s1 w1 (by omega)
    obtain ⟨τ2, y1, t1, v1⟩ := tm_say τ1 (n + 10) 4473376 k_db.2 τ1 [] (pSm_r τ1) wm0 (by rw [← k_db.1]; simp only [List.length_nil]; omega)
    rw [← k_db.1, List.nil_append] at v1
    obtain ⟨τ3, y2, t2, v2⟩ := tm_num τ1 (n + 20) w8 (by omega) (by omega) τ2 _ t1 v1 (by omega)
    refine ⟨1, σ2, τ1, τ3, p_nm 99 ++ p_dN w8, ?_, ?_, s2, w2, sf, t2, v2, by rw [List.length_append]; omega⟩
    · unfold zX6_write_30
      rw [hA, hat, fm1, fv_bi_ri, if_neg (by decide), show zX6_putText_30 (n + 20) 99 A = fv_rv σ1 from x1, fv_bv_rv]
      have oo : zX6_octet a σ1 = fv_ri (Int32.ofNat w8) σ1 := by
        have := xo_m h a
        unfold zX6_octet at this ⊢
        rw [if_pos (p_in16 a)] at this ⊢
        have e := congrArg p_v this
        have e1 : fv_ga A 35 (a &&& 65535) &&& 255 = p_m B a := e
        show fv_ri (fv_gw σ1 35 _ &&& 255) σ1 = _
        rw [s1.2.1 35 (by omega)]
        exact congrArg (fun u => fv_ri u σ1) (e1.trans e8)
      rw [oo, fv_bi_ri, show zX6_putNumber_30 (n + 20) (Int32.ofNat w8) σ1 = fv_rv σ2 from x2, fv_bv_rv]
    · unfold zX8_writeAt
      rw [hBB, hdec, fv_bi_ri, if_neg (by decide), show zX8_say (n + 20) 4473376 τ1 = fv_rv τ2 from y1, fv_bv_rv, m_pk, fv_bi_ri, s_pm t1, sf_pm sf, e8]
      rw [show zX8_number (n + 20) (Int32.ofNat w8) τ2 = fv_rv τ3 from y2, fv_bv_rv]
theorem c_wry {σ τ : fv_S} (n : Nat) (hM : pMQ (fv_si σ 4097 0) (fv_si τ 66 0)) (hF : pFm (fv_si σ 4097 0)) (hB : ∀ i, p_se (fv_gw σ 33 i) = fv_gw σ 33 i) {a : Int32} (wa : pw a) :
    ∃ len σ' τ1 τ' t, zX6_write_32 (n + 20) a σ = fv_ri len σ' ∧ zX8_writeAt (n + 20) a τ = fv_ri len τ' ∧ pSy (fv_si σ 4097 0) σ' ∧ pWy σ' t ∧ pSF (fv_si τ 66 0) τ1 ∧ pSm τ1 τ' ∧ pWm τ' t ∧ t.length ≤ 18 := by
  obtain ⟨r, hr, h⟩ := pMQ_o hM
  have sx0 : pSy (fv_si σ 4097 0) (fv_si σ 4097 0) := pSy_r _ hB
  have wx0 : pWy (fv_si σ 4097 0) [] := ⟨by simp, rfl, fun i hi => absurd hi (by simp)⟩
  obtain ⟨P, o, τ1, hP, ho, hat, hd⟩ := c_dec h wa
  rcases hd with ⟨ok, hdec, hdc⟩ | ⟨nok, hdec, sf⟩
  · obtain ⟨m, em, f0, cT, cS, cw, cka, ckb, cbh, cz, cix, cml⟩ := ck_of hP ho ok
    obtain ⟨f, hf, ef, ff, f1, f2⟩ := t_by hF hP ho f0
    have emf : p_at f = m := by rw [← em, ef]; rfl
    subst emf
    rw [p_tXc f2] at cT cS cbh cml
    obtain ⟨sf, d59, d60, d61, d63, d64, d62, d62n⟩ := hdc
    generalize hA : fv_si σ 4097 0 = A at *
    generalize hBB : fv_si τ 66 0 = B at *
    obtain ⟨n2, hn2, e2⟩ := pb_n (x_m h (a + 2)).2
    obtain ⟨w8, h8, e8⟩ := pb_n (x_m h (a + p_ofP P o)).2
    obtain ⟨wh, hh, eh⟩ := pb_n (x_m h (a + p_ofP P o + 1)).2
    obtain ⟨k16, h16, e16⟩ := pw_n (pw_or (pw_b (p_ofN w8 h8)) (pw_shl (p_ofN wh hh)))
    obtain ⟨kn, hn, en⟩ := pw_n (pw_a ((a + p_lnP P o) + p_se (Int32.ofNat w8)))
    have hnd : ∃ nd, nd < 256 ∧ fv_gi τ1 62 = p_se (Int32.ofNat nd) ∧ ((P = 5 ∨ P = 6 ∨ ((P = 3 ∨ P = 4) ∧ p_hp (Int32.ofNat o) = 1)) → nd = n2) := by
      by_cases c : P = 5 ∨ P = 6 ∨ ((P = 3 ∨ P = 4) ∧ p_hp (Int32.ofNat o) = 1)
      · exact ⟨n2, hn2, by rw [d62 c, e2], fun _ => rfl⟩
      · exact ⟨0, by omega, by rw [d62n c]; decide, fun e => absurd e c⟩
    obtain ⟨nd, hnd, ed, end2⟩ := hnd
    have hE : ∃ E : Nat → List Nat, E 0 = p_dN k16 ∧ E 1 = p_dN w8 ∧ E 2 = p_dN kn ∧ E 3 = p_sd nd := ⟨fun j => if j = 0 then p_dN k16 else if j = 1 then p_dN w8 else if j = 2 then p_dN kn else p_sd nd, rfl, rfl, rfl, rfl⟩
    obtain ⟨E, E0, E1, E2, E3⟩ := hE
    have em2 : pEm τ1 E a (p_i60 P) := by
      refine ⟨d60, fun _ => by rw [ed]; exact p_hD_of hnd E3, ⟨k16, h16, ?_, E0⟩, ⟨w8, h8, ?_, E1⟩, ⟨kn, hn, ?_, E2⟩⟩
      · rw [d64, sf_pm sf, sf_pm sf, e8, eh, e16]
      · rw [d64, sf_pm sf, e8]
      · rw [d64, d63, sf_pm sf, e8, en]
    have rl : (p_ren E (p_tX (p_at f))).length ≤ 18 := by
      refine Nat.le_trans (p_rl E ?_ ?_ ?_ ?_ _ (p_tX_lt cw cka ckb)) cml
      · rw [E0]; exact (p_dNl k16).1
      · rw [E1]; exact (p_dNl w8).2 h8
      · rw [E2]; exact (p_dNl kn).1
      · rw [E3]; unfold p_sd
        split
        · have := (p_dNl nd).2 hnd; simp only [List.length_cons]; omega
        · have := (p_dNl (256 - nd)).2 (by omega); simp only [List.length_cons]; omega
    -- the model
    have wm0 : pWm τ1 [] := ⟨by simp, by rw [show fv_gi τ1 66 = fv_gi B 66 from sf.1 66 (by omega), ← hBB]; rfl, fun i hi => absurd hi (by simp)⟩
    have uat := u_at (n + 10) em2 d61 d59
    rw [← cT] at uat
    obtain ⟨τ', xm, sm, wm⟩ := uat τ1 [] (pSm_r τ1) wm0 (by simp only [List.length_nil]; omega)
    rw [List.nil_append] at wm
    have M : zX8_writeAt (n + 20) a τ = fv_ri (p_lnP P o) τ' := by
      rw [m_wat (n + 20) a τ τ1 (by rw [hBB]; exact hdec)]
      rw [show ((fun σ1 => if ¬ (fv_gi σ1 59) = (1 : Int32) then _ else _) τ1) = fv_rv τ' from xm, fv_bv_rv]
      unfold p_fin
      rw [sm.1 63 (by omega), d63]
    -- the class
    have bl : pb (p_m B ((a + p_lnP P o) - (Int32.ofNat (p_bh (p_at f).2.2.2.1) + Int32.ofNat (p_bh (p_at f).2.2.2.2.2.1)))) := (x_m h _).2
    have pos : p_bh (p_at f).2.2.2.1 + p_bh (p_at f).2.2.2.2.2.1 ≠ 0 → (a + p_lnP P o) - (Int32.ofNat (p_bh (p_at f).2.2.2.1) + Int32.ofNat (p_bh (p_at f).2.2.2.2.2.1)) = a + p_ofP P o := by
      intro nz
      rcases cbh with c | ⟨c1, c2⟩
      · exact absurd c nz
      · rw [← cS, ← c1, ← Int32.ofNat_add]
        have : Int32.ofNat (p_sz (p_at f)) = Int32.ofNat (p_sz (p_at f) - (p_bh (p_at f).2.2.2.1 + p_bh (p_at f).2.2.2.2.2.1)) + Int32.ofNat (p_bh (p_at f).2.2.2.1 + p_bh (p_at f).2.2.2.2.2.1) := by rw [← Int32.ofNat_add]; congr 1; omega
        rw [this, ← Int32.add_assoc, Int32.add_sub_cancel]
    have pos2 : p_bh (p_at f).2.2.2.1 + p_bh (p_at f).2.2.2.2.2.1 = 2 → (a + p_lnP P o) - 1 = a + p_ofP P o + 1 := by
      intro e
      have q := pos (by omega)
      rw [← Int32.ofNat_add, e] at q
      rw [← q]
      show a + p_lnP P o - 1 = a + p_lnP P o - Int32.ofNat 2 + 1
      exact p_sub2 _
    obtain ⟨num, enum, na, nb⟩ := num_ok (E := E) (ka := (p_at f).2.2.2.1) (kb := (p_at f).2.2.2.2.2.1) (low := p_m B ((a + p_lnP P o) - (Int32.ofNat (p_bh (p_at f).2.2.2.1) + Int32.ofNat (p_bh (p_at f).2.2.2.2.2.1)))) (hi := p_m B ((a + p_lnP P o) - 1)) (a := a) (L := p_lnP P o) h8 h16 hn bl cz
      (fun nz => by rw [pos nz, e8]) (fun e => by rw [pos (by omega), pos2 e, e8, eh, e16]) (fun nz => by rw [pos nz, e8, en]) E0 E1 E2 cka.1 ckb.1
    have hdd : (p_at f).2.2.2.1 = 10 ∨ (p_at f).2.2.2.2.2.1 = 10 → p_hD E (p_se (Int32.ofNat n2)) := by
      intro e
      rw [← end2 (cix e)]; exact p_hD_of hnd E3
    obtain ⟨σ', xx, sx, wx⟩ := wy_f n hF hf cw cka ckb (many := p_lnP P o) na nb hdd sx0 wx0 (by simp only [List.length_nil]; omega)
    rw [List.nil_append] at wx
    refine ⟨p_lnP P o, σ', τ1, τ', _, ?_, M, sx, wx, sf, sm, wm, rl⟩
    obtain ⟨a1, a2, a3, a4, a5, a6, a7⟩ := pFm_at hF hf
    obtain ⟨i1, i2⟩ := p_inN f 900 (by omega) (by omega)
    have g5 : fv_ga A 5 (Int32.ofNat f) = Int32.ofNat (p_at f).2.2.2.1 := by show fv_gw A 5 (Int32.ofNat f).toNatClampNeg = _; rw [i2]; exact a4
    have g7 : fv_ga A 7 (Int32.ofNat f) = Int32.ofNat (p_at f).2.2.2.2.2.1 := by show fv_gw A 7 (Int32.ofNat f).toNatClampNeg = _; rw [i2]; exact a6
    have z0 : (0 : Int32) ≤ Int32.ofNat f := by rw [p_le, p_ofn f (by omega)]; show (0 : Int) ≤ _; omega
    unfold zX6_write_32
    rw [hA, hat, ff, fv_bi_ri, if_pos z0, x_size hF hf (by omega) cka.1 ckb.1, cS, fv_bi_ri, if_pos i1, xo_m h, fv_bi_ri, if_pos i1, if_pos i1, g5, g7, x_beh cka.1, fv_bi_ri, x_beh ckb.1, fv_bi_ri, xo_m h, fv_bi_ri, e2]
    have k142 : ∀ s0, (s0 = if p_bh (p_at f).2.2.2.1 + p_bh (p_at f).2.2.2.2.2.1 = 2 then (p_m B ((a + p_lnP P o) - (Int32.ofNat (p_bh (p_at f).2.2.2.1) + Int32.ofNat (p_bh (p_at f).2.2.2.2.2.1))) ||| (p_m B ((a + p_lnP P o) - 1) <<< (8 : Int32))) else p_m B ((a + p_lnP P o) - (Int32.ofNat (p_bh (p_at f).2.2.2.1) + Int32.ofNat (p_bh (p_at f).2.2.2.2.2.1)))) → zX6_write_32_142 (n + 20) a (Int32.ofNat f) (p_lnP P o) ((Int32.toInt8 (Int32.ofNat n2)).toInt32) (Int32.ofNat (p_at f).2.2.2.1) (Int32.ofNat (p_at f).2.2.2.2.2.1) (p_m B ((a + p_lnP P o) - (Int32.ofNat (p_bh (p_at f).2.2.2.1) + Int32.ofNat (p_bh (p_at f).2.2.2.2.2.1)))) s0 A = fv_ri (p_lnP P o) σ' := by
      intro s0 hs0
      unfold zX6_write_32_142 zX6_write_32_158
      have lt6a : (Int32.ofNat (p_at f).2.2.2.1 = 6) = ((p_at f).2.2.2.1 = 6) := p_lit (by have := cka.1; omega) 6 (by omega)
      have lt6b : (Int32.ofNat (p_at f).2.2.2.2.2.1 = 6) = ((p_at f).2.2.2.2.2.1 = 6) := p_lit (by have := ckb.1; omega) 6 (by omega)
      simp only [lt6a, lt6b]
      by_cases ca : (p_at f).2.2.2.1 = 6
      · rw [if_pos (Or.inl ca)] at enum
        rw [if_pos ca]; subst enum; exact xx
      · rw [if_neg ca]
        by_cases cb : (p_at f).2.2.2.2.2.1 = 6
        · rw [if_pos (Or.inr cb)] at enum
          rw [if_neg (not_not_intro cb)]; subst enum; exact xx
        · rw [if_neg (fun e => by rcases e with e | e; exact ca e; exact cb e)] at enum
          rw [if_pos cb, hs0, ← enum]; exact xx
    by_cases c2 : p_bh (p_at f).2.2.2.1 + p_bh (p_at f).2.2.2.2.2.1 = 2
    · have cc : Int32.ofNat (p_bh (p_at f).2.2.2.1) + Int32.ofNat (p_bh (p_at f).2.2.2.2.2.1) = 2 := by rw [← Int32.ofNat_add, c2]; rfl
      rw [if_neg (not_not_intro cc), xo_m h, fv_bi_ri]
      exact k142 _ (by rw [if_pos c2])
    · have bb : ∀ k, p_bh k ≤ 2 := by intro k; unfold p_bh; split; omega; split <;> omega
      have cc : ¬ Int32.ofNat (p_bh (p_at f).2.2.2.1) + Int32.ofNat (p_bh (p_at f).2.2.2.2.2.1) = 2 := by
        rw [← Int32.ofNat_add]
        have b1 := bb (p_at f).2.2.2.1
        have b2 := bb (p_at f).2.2.2.2.2.1
        intro e
        exact c2 ((p_ofeq (v := (2 : Int32)) (by omega) 2 (by omega) rfl).1 e)
      rw [if_pos cc]
      exact k142 _ (by rw [if_neg c2])
  · have fd0 : p_FD (256 * P + o) = 0 := by
      have c := t_chk P hP o ho
      unfold p_chk at c
      rw [if_neg (by rw [nok]; decide)] at c
      exact Nat.eq_of_beq_eq_true c
    have fm1 : fv_gw (fv_si σ 4097 0) 11 (256 * P + o) = -1 := by rw [hF.2.2 _ (by omega), fd0]; decide
    generalize hA : fv_si σ 4097 0 = A at *
    generalize hBB : fv_si τ 66 0 = B at *
    obtain ⟨w8, h8, e8⟩ := pb_n (x_m h a).2
    have E : Nat → List Nat := fun _ => []
    have wm0 : pWm τ1 [] := ⟨by simp, by rw [show fv_gi τ1 66 = fv_gi B 66 from sf.1 66 (by omega), ← hBB]; rfl, fun i hi => absurd hi (by simp)⟩
    have l1 : (p_nm 99).length = 3 := by decide
    have l2 := (p_dNl w8).2 h8
    obtain ⟨σ1, x1, s1, w1⟩ := vy_tx A E n 99 (by omega) A [] sx0 wx0 (by rw [p_ren_lit E _ (p_nm_lt 99 (by omega))]; simp only [List.length_nil]; omega)
    rw [p_ren_lit E _ (p_nm_lt 99 (by omega)), List.nil_append] at w1
    obtain ⟨σ2, x2, s2, w2⟩ := ty_num A (n + 20) w8 (by omega) (by omega) σ1 _ s1 w1 (by omega)
    obtain ⟨τ2, y1, t1, v1⟩ := tm_say τ1 (n + 10) 4473376 k_db.2 τ1 [] (pSm_r τ1) wm0 (by rw [← k_db.1]; simp only [List.length_nil]; omega)
    rw [← k_db.1, List.nil_append] at v1
    obtain ⟨τ3, y2, t2, v2⟩ := tm_num τ1 (n + 20) w8 (by omega) (by omega) τ2 _ t1 v1 (by omega)
    refine ⟨1, σ2, τ1, τ3, p_nm 99 ++ p_dN w8, ?_, ?_, s2, w2, sf, t2, v2, by rw [List.length_append]; omega⟩
    · unfold zX6_write_32
      rw [hA, hat, fm1, fv_bi_ri, if_neg (by decide), show zX6_putText_32 (n + 20) 99 A = fv_rv σ1 from x1, fv_bv_rv]
      have oo : zX6_octet a σ1 = fv_ri (Int32.ofNat w8) σ1 := by
        have := xo_m h a
        unfold zX6_octet at this ⊢
        rw [if_pos (p_in16 a)] at this ⊢
        have e := congrArg p_v this
        have e1 : fv_ga A 35 (a &&& 65535) &&& 255 = p_m B a := e
        show fv_ri (fv_gw σ1 35 _ &&& 255) σ1 = _
        rw [s1.2.1 35 (by omega)]
        exact congrArg (fun u => fv_ri u σ1) (e1.trans e8)
      rw [oo, fv_bi_ri, show zX6_putNumber_32 (n + 20) (Int32.ofNat w8) σ1 = fv_rv σ2 from x2, fv_bv_rv]
    · unfold zX8_writeAt
      rw [hBB, hdec, fv_bi_ri, if_neg (by decide), show zX8_say (n + 20) 4473376 τ1 = fv_rv τ2 from y1, fv_bv_rv, m_pk, fv_bi_ri, s_pm t1, sf_pm sf, e8]
      rw [show zX8_number (n + 20) (Int32.ofNat w8) τ2 = fv_rv τ3 from y2, fv_bv_rv]
