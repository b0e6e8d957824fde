set_option maxRecDepth 100000
set_option maxHeartbeats 4000000
/-! The plain law: writing at an address, both sides. -/
theorem bv_as (o : Option fv_O) (k k2 : fv_S → Option fv_O) : fv_bv (fv_bv o k fv_no) k2 fv_no = fv_bv o (fun σ => fv_bv (k σ) k2 fv_no) fv_no := by
  unfold fv_bv
  match o with
  | none => rfl
  | some (.inl none, σ) => rfl
  | some (.inr (a, b), σ) => rfl
  | some (.inl (some r), σ) => rfl
theorem sf_pm {τ τ1 : fv_S} (h : pSF τ τ1) (x : Int32) : p_m τ1 x = p_m τ x := by
  show τ1.2.2.1 13 _ = τ.2.2.1 13 _; rw [h.2]
theorem xo_m {σ0 τ0 σ τ : fv_S} {p q : Int32} (h : pRel σ0 τ0 p q σ τ) (x : Int32) : zX6_octet x σ = fv_ri (p_m τ x) σ := by
  unfold zX6_octet; rw [if_pos (p_in16 x), (x_m h x).1]
/-- the model's end: how many octets -/
noncomputable def p_fin (σ : fv_S) : Option fv_O := fv_ri (fv_gi σ 63) σ
theorem m_wat (N : Nat) (a : Int32) (τ τ1 : fv_S) (h : zX8_decode a (fv_si τ 66 0) = fv_ri 1 τ1) : zX8_writeAt N a τ = fv_bv ((fun σ1 => if ¬ (fv_gi σ1 59) = (1 : Int32) then (if ¬ (fv_gi σ1 59) = (2 : Int32) then (if ¬ ((fv_gi σ1 61) >>> (6 : Int32)) = 0 then (if ¬ ((fv_gi σ1 61) >>> (6 : Int32)) = (3 : Int32) then (if ¬ (fv_gi σ1 61) = (118 : Int32) then (if ¬ ((fv_gi σ1 61) >>> (6 : Int32)) = (1 : Int32) then
     fv_bv (zX8_sumName N (((fv_gi σ1 61) >>> (3 : Int32)) &&& (7 : Int32)) σ1) (fun σ3 => zX8_octetName N ((fv_gi σ3 61) &&& (7 : Int32)) σ3) fv_no
     else fv_bv (zX8_say N 4998176 σ1) (fun σ5 => fv_bv (zX8_octetName N (((fv_gi σ5 61) >>> (3 : Int32)) &&& (7 : Int32)) σ5) (fun σ6 => fv_bv (zX8_one 44 σ6) (fun σ7 => zX8_octetName N ((fv_gi σ7 61) &&& (7 : Int32)) σ7) fv_no) fv_no) fv_no)
     else zX8_say N 1212238932 σ1) else zX8_writeLast N σ1) else zX8_writeFirst N a σ1) else zX8_write237 N σ1) else zX8_write203 N σ1) τ1) p_fin fv_no := by
  unfold zX8_writeAt
  rw [h, fv_bi_ri, if_pos (by decide)]
  dsimp only
  by_cases c1 : fv_gi τ1 59 = 1
  · rw [if_neg (not_not_intro c1), if_neg (not_not_intro c1)]; rfl
  · rw [if_pos c1, if_pos c1]
    by_cases c2 : fv_gi τ1 59 = 2
    · rw [if_neg (not_not_intro c2), if_neg (not_not_intro c2)]; rfl
    · rw [if_pos c2, if_pos c2]
      by_cases c3 : fv_gi τ1 61 >>> (6 : Int32) = 0
      · rw [if_neg (not_not_intro c3), if_neg (not_not_intro c3)]; rfl
      · rw [if_pos c3, if_pos c3]
        by_cases c4 : fv_gi τ1 61 >>> (6 : Int32) = 3
        · rw [if_neg (not_not_intro c4), if_neg (not_not_intro c4)]; rfl
        · rw [if_pos c4, if_pos c4]
          by_cases c5 : fv_gi τ1 61 = 118
          · rw [if_neg (not_not_intro c5), if_neg (not_not_intro c5)]; rfl
          · rw [if_pos c5, if_pos c5]
            by_cases c6 : fv_gi τ1 61 >>> (6 : Int32) = 1
            · rw [if_neg (not_not_intro c6), if_neg (not_not_intro c6), bv_as]
              congr 1; funext σ5; rw [bv_as]
              congr 1; funext σ6; rw [bv_as]; rfl
            · rw [if_pos c6, if_pos c6, bv_as]; rfl
/-- the numbers that both write -/
theorem num_ok {E : Nat → List Nat} {ka kb w8 k16 kn : Nat} {low hi a L : Int32} (h8 : w8 < 256) (h16 : k16 < 65536) (hn : kn < 65536) (bl : pb low)
    (hz : p_bh ka = 0 ∨ p_bh kb = 0) (hlow : p_bh ka + p_bh kb ≠ 0 → low = Int32.ofNat w8) (hhi : p_bh ka + p_bh kb = 2 → (low ||| (hi <<< (8 : Int32))) = Int32.ofNat k16) (hnr : p_bh ka + p_bh kb ≠ 0 → ((a + L) + p_se low) &&& 65535 = Int32.ofNat kn)
    (e0 : E 0 = p_dN k16) (e1 : E 1 = p_dN w8) (e2 : E 2 = p_dN kn) (ha : ka < 15) (hb : kb < 15) :
    ∃ num, num = (if ka = 6 ∨ kb = 6 then ((a + L) + p_se low) &&& 65535 else if p_bh ka + p_bh kb = 2 then (low ||| (hi <<< (8 : Int32))) else low) ∧ p_hN E ka num ∧ p_hN E kb num := by
  have b4 : ∀ k, (k = 4 ∨ k = 6 ∨ k = 8 → p_bh k = 1) ∧ (k = 5 ∨ k = 7 → p_bh k = 2) ∧ (p_bh k = 1 → k = 4 ∨ k = 6 ∨ k = 8) ∧ (p_bh k = 2 → k = 5 ∨ k = 7) := by
    intro k; unfold p_bh
    refine ⟨fun e => by rw [if_pos e], fun e => by rw [if_neg (by omega), if_pos e], ?_, ?_⟩
    · split
      · intro _; assumption
      · split <;> intro e <;> omega
    · split
      · intro e; omega
      · split
        · intro _; assumption
        · intro e; omega
  have A := b4 ka
  have B := b4 kb
  obtain ⟨kl, hkl, ekl⟩ := pb_n bl
  refine ⟨_, rfl, ?_⟩
  by_cases c6 : ka = 6 ∨ kb = 6
  · rw [if_pos c6]
    have nz : p_bh ka + p_bh kb ≠ 0 := by
      rcases c6 with e | e
      · have := A.1 (Or.inr (Or.inl e)); omega
      · have := B.1 (Or.inr (Or.inl e)); omega
    rw [hnr nz]
    refine ⟨⟨kn, hn, rfl, ?_, ?_, fun _ => e2⟩, ⟨kn, hn, rfl, ?_, ?_, fun _ => e2⟩⟩
    all_goals (intro e; exfalso)
    · have := A.1 (by omega); rcases c6 with d | d
      · omega
      · have := B.1 (Or.inr (Or.inl d)); omega
    · have := A.2.1 e; rcases c6 with d | d
      · omega
      · have := B.1 (Or.inr (Or.inl d)); omega
    · have := B.1 (by omega); rcases c6 with d | d
      · have := A.1 (Or.inr (Or.inl d)); omega
      · omega
    · have := B.2.1 e; rcases c6 with d | d
      · have := A.1 (Or.inr (Or.inl d)); omega
      · omega
  · rw [if_neg c6]
    by_cases c2 : p_bh ka + p_bh kb = 2
    · rw [if_pos c2, hhi c2]
      refine ⟨⟨k16, h16, rfl, ?_, fun _ => e0, fun e => absurd (Or.inl e) c6⟩, ⟨k16, h16, rfl, ?_, fun _ => e0, fun e => absurd (Or.inr e) c6⟩⟩
      · intro e; exfalso; have := A.1 (by omega); omega
      · intro e; exfalso; have := B.1 (by omega); omega
    · rw [if_neg c2]
      by_cases c0 : p_bh ka + p_bh kb = 0
      · rw [ekl]
        refine ⟨⟨kl, by omega, rfl, ?_, ?_, fun e => absurd (Or.inl e) c6⟩, ⟨kl, by omega, rfl, ?_, ?_, fun e => absurd (Or.inr e) c6⟩⟩
        all_goals (intro e; exfalso)
        · have := A.1 (by omega); omega
        · have := A.2.1 e; omega
        · have := B.1 (by omega); omega
        · have := B.2.1 e; omega
      · rw [hlow c0]
        refine ⟨⟨w8, by omega, rfl, fun _ => e1, ?_, fun e => absurd (Or.inl e) c6⟩, ⟨w8, by omega, rfl, fun _ => e1, ?_, fun e => absurd (Or.inr e) c6⟩⟩
        all_goals (intro e; exfalso)
        · have := A.2.1 e; omega
        · have := B.2.1 e; omega
