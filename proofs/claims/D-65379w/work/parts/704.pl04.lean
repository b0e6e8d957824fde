set_option maxRecDepth 100000
set_option maxHeartbeats 4000000
/-! The plain law: what is moved, DAA, wide sums, ports, exchanges. -/
theorem p_or0 (a : Int32) : a ||| 0 = a := Int32.or_zero
theorem p_mv1 {f o : Int32} (ho : p_bit o) : ((f &&& ((-2) : Int32)) ||| o) &&& 1 = o := by
  rw [p_oa, p_aa]
  rcases ho with rfl | rfl
  · show (f &&& 0) ||| 0 = 0
    rw [Int32.and_zero]; rfl
  · show (f &&& 0) ||| 1 = 1
    rw [Int32.and_zero]; rfl
theorem p_top : ∀ n, n < 256 → ((Int32.ofNat n >>> (7 : Int32) = 0 ∨ Int32.ofNat n >>> (7 : Int32) = 1) ∧ (Int32.ofNat n >>> (7 : Int32)) <<< (7 : Int32) = Int32.ofNat n &&& (128 : Int32)) := by decide +kernel
theorem p_topb {v : Int32} (h : pb v) : p_bit (v >>> (7 : Int32)) ∧ (v >>> (7 : Int32)) <<< (7 : Int32) = v &&& 128 := by
  obtain ⟨n, hn, rfl⟩ := pb_n h; exact p_top n hn
/-- what is moved, the bit that goes out -/
theorem c_moved {y v : Int32} (hy : p_y8 y) (h6 : y ≠ 6) (hv : pb v) (c : Int32) : ∃ w o, pb w ∧ p_bit o ∧
    (∀ σ, fv_ga σ 36 8 &&& 1 = c → zX7_moved y v σ = fv_ri w (fv_sa σ 36 8 ((fv_ga σ 36 8 &&& ((-2) : Int32)) ||| o))) ∧
    (∀ τ, fv_ga τ 23 6 &&& 1 = c → zX8_turned y v τ = fv_ri w (fv_sa τ 23 6 ((p_sh w ||| p_pa w) ||| o))) := by
  have t := p_topb hv
  have b := p_bit1 v
  have T : ∀ (x s : Int32) (τ : fv_S), zX8_turned_147 s x τ = fv_ri (x &&& 255) (fv_sa τ 23 6 ((p_sh (x &&& 255) ||| p_pa (x &&& 255)) ||| s)) := by
    intro x s τ
    unfold zX8_turned_147
    rw [m_signs, fv_bi_ri, m_parity, fv_bi_ri]
  rcases hy with rfl | rfl | rfl | rfl | rfl | rfl | rfl | rfl
  · refine ⟨((v <<< (1 : Int32)) ||| (v >>> (7 : Int32))) &&& 255, v >>> (7 : Int32), pb_a255 _, t.1, fun σ hc => ?_, fun τ hc => ?_⟩
    · rfl
    · show zX8_turned_147 _ _ τ = _; rw [T]
  · refine ⟨((v >>> (1 : Int32)) ||| ((v &&& 1) <<< (7 : Int32))) &&& 255, v &&& 1, pb_a255 _, b, fun σ hc => ?_, fun τ hc => ?_⟩
    · rfl
    · show zX8_turned_147 _ _ τ = _; rw [T]
  · refine ⟨((v <<< (1 : Int32)) ||| c) &&& 255, v >>> (7 : Int32), pb_a255 _, t.1, fun σ hc => ?_, fun τ hc => ?_⟩
    · rw [← hc]; rfl
    · rw [← hc]; show zX8_turned_147 _ _ τ = _; rw [T]
  · refine ⟨((v >>> (1 : Int32)) ||| (c <<< (7 : Int32))) &&& 255, v &&& 1, pb_a255 _, b, fun σ hc => ?_, fun τ hc => ?_⟩
    · rw [← hc]; rfl
    · rw [← hc]; show zX8_turned_147 _ _ τ = _; rw [T]
  · refine ⟨(v <<< (1 : Int32)) &&& 255, v >>> (7 : Int32), pb_a255 _, t.1, fun σ hc => ?_, fun τ hc => ?_⟩
    · rw [← p_or0 (v <<< (1 : Int32))]; rfl
    · show zX8_turned_147 _ _ τ = _; rw [T]
  · refine ⟨((v >>> (1 : Int32)) ||| (v &&& 128)) &&& 255, v &&& 1, pb_a255 _, b, fun σ hc => ?_, fun τ hc => ?_⟩
    · rw [← t.2]; rfl
    · show zX8_turned_147 _ _ τ = _; rw [T]
  · exact absurd rfl h6
  · refine ⟨(v >>> (1 : Int32)) &&& 255, v &&& 1, pb_a255 _, b, fun σ hc => ?_, fun τ hc => ?_⟩
    · rw [← p_or0 (v >>> (1 : Int32))]; rfl
    · show zX8_turned_147 _ _ τ = _; rw [T]
/-- rotations behind 203 -/
theorem c_rot {σ0 τ0 σ τ : fv_S} {p q : Int32} (h : pRel σ0 τ0 p q σ τ) {y v : Int32} (hy : p_y8 y) (h6 : y ≠ 6) (hv : pb v) : ∃ w f g, pb w ∧ pb f ∧ zX7_rotated y v σ = fv_ri w (fv_sa (fv_sa σ 36 8 g) 36 8 f) ∧ zX8_turned y v τ = fv_ri w (fv_sa τ 23 6 f) := by
  obtain ⟨w, o, hw, ho, hx, hm⟩ := c_moved hy h6 hv (fv_ga τ 23 6 &&& 1)
  refine ⟨w, (p_sh w ||| p_pa w) ||| o, (fv_ga σ 36 8 &&& ((-2) : Int32)) ||| o, hw, pb_or (pb_or (pb_sh _) (pb_pa _)) (pb_bit ho), ?_, hm τ rfl⟩
  unfold zX7_rotated
  rw [hx σ (by rw [(g_f h).1]), fv_bi_ri, x_shown hw, fv_bi_ri, x_parity, fv_bi_ri, show ∀ g, fv_ga (fv_sa σ 36 8 g) 36 8 = g from fun _ => rfl, p_mv1 ho]
theorem s_ow (σ : fv_S) (k : Nat) (i : Int32) (g f : Int32) : fv_sa (fv_sa σ k i g) k i f = fv_sa σ k i f := by
  unfold fv_sa fv_sw
  dsimp only
  congr 1
  congr 1
  congr 1
  funext j
  unfold va_up
  by_cases e : j = k
  · simp only [e, if_true]
    funext x
    unfold upd
    split
    · rfl
    · rename_i e; simp only [e, if_false]
  · simp only [e, if_false]
theorem s_ow2 (σ : fv_S) (k : Nat) (i j : Int32) (g w f : Int32) : fv_sa (fv_sa (fv_sa σ k i g) k j w) k i f = fv_sa (fv_sa σ k j w) k i f := by
  unfold fv_sa fv_sw
  dsimp only
  congr 1
  congr 1
  congr 1
  funext l
  unfold va_up
  by_cases e : l = k
  · simp only [e, if_true]
    funext x
    unfold upd
    split
    · rfl
    · rename_i e1
      split
      · rfl
      · simp only [e1, if_false]
  · simp only [e, if_false]
/-- the class's flags may be written twice -/
theorem e_ff {σ0 τ0 σ τ : fv_S} {p q : Int32} (h : pRel σ0 τ0 p q σ τ) {f : Int32} (g : Int32) (hf : pb f) : pRel σ0 τ0 p q (fv_sa (fv_sa σ 36 8 g) 36 8 f) (fv_sa τ 23 6 f) := by
  rw [s_ow]; exact e_f h hf
theorem p_sh1 (w : Int32) : p_sh w &&& 1 = 0 := by
  unfold p_sh
  rw [p_oa, p_aa, show (168 : Int32) &&& 1 = 0 from rfl, Int32.and_zero]
  split <;> rfl
theorem p_pa1 (w : Int32) : p_pa w &&& 1 = 0 := by
  unfold p_pa
  split <;> rfl
/-- RLCA and its like -/
theorem c_acc {σ0 τ0 σ τ : fv_S} {p q : Int32} (h : pRel σ0 τ0 p q σ τ) {y : Int32} (hy : p_q4 y) : ∃ σ' τ', zX7_accumulator y σ = fv_rv σ' ∧ zX8_doAlone_60 y (fv_ga τ 23 7) (fv_ga τ 23 6) τ = fv_rv τ' ∧ pRel σ0 τ0 p q σ' τ' := by
  have hA := g_r h 7 (by decide) (by decide)
  have hF := g_f h
  have y8 : p_y8 y ∧ y ≠ 6 := by
    rcases hy with rfl | rfl | rfl | rfl <;> refine ⟨?_, by decide⟩ <;> simp [p_y8]
  obtain ⟨w, o, hw, ho, hx, hm⟩ := c_moved y8.1 y8.2 hA.2 (fv_ga τ 23 6 &&& 1)
  have key : (((fv_ga τ 23 6 &&& ((-2) : Int32)) ||| o) &&& 197) ||| (w &&& 40) = ((fv_ga τ 23 6 &&& 196) ||| (w &&& 40)) ||| o := by
    rw [p_oa, p_aa, show ((-2) : Int32) &&& 197 = 196 from rfl, show o &&& 197 = o by rcases ho with rfl | rfl <;> rfl, Int32.or_assoc, Int32.or_comm o, Int32.or_assoc]
  have key2 : ((p_sh w ||| p_pa w) ||| o) &&& 1 = o := by
    rw [p_oa, p_oa, p_sh1, p_pa1, show o &&& 1 = o by rcases ho with rfl | rfl <;> rfl]
    rcases ho with rfl | rfl <;> rfl
  refine ⟨_, _, ?_, ?_, e_f (e_r h 7 (by decide) (by decide) hw) (v := ((fv_ga τ 23 6 &&& 196) ||| (w &&& 40)) ||| o) (pb_or (pb_or (pb_and _ _ rfl) (pb_and _ _ rfl)) (pb_bit ho))⟩
  · unfold zX7_accumulator
    rw [hA.1, hx σ (by rw [hF.1]), fv_bi_ri, s_ow2, show ∀ g, fv_ga (fv_sa σ 36 8 g) 36 8 = g from fun _ => rfl, hF.1, key]
  · unfold zX8_doAlone_60
    rw [hm τ rfl, fv_bi_ri, s_ow2, show ∀ g, fv_ga (fv_sa τ 23 6 g) 23 6 = g from fun _ => rfl, key2]
theorem p_orc (a b c : Int32) : (a ||| b) ||| c = (a ||| c) ||| b := by rw [Int32.or_assoc, Int32.or_comm b, ← Int32.or_assoc]
/-- the flags that DAA looks at -/
theorem c_daa {σ0 τ0 σ τ : fv_S} {p q : Int32} (h : pRel σ0 τ0 p q σ τ) : ∃ σ' τ', zX7_adjust σ = fv_rv σ' ∧ zX8_adjust τ = fv_rv τ' ∧ pRel σ0 τ0 p q σ' τ' := by
  have hA := g_r h 7 (by decide) (by decide)
  have hF := g_f h
  have X : ∀ (c s w : Int32), zX7_adjust_138 c s 7 w σ = fv_rv (fv_sa (fv_sa σ 36 7 (w &&& 255)) 36 8 ((((p_sh (w &&& 255) ||| p_pa (w &&& 255)) ||| (fv_ga τ 23 6 &&& 2)) ||| (if s = 0 then 0 else 16)) ||| (if c = 0 then 0 else 1))) := by
    intro c s w
    unfold zX7_adjust_138 zX7_adjust_191 zX7_adjust_201
    rw [if_pos (by decide), show fv_ga (fv_sa σ 36 7 (w &&& 255)) 36 7 = w &&& 255 from rfl, x_shown (pb_a255 w), fv_bi_ri, x_parity, fv_bi_ri, show fv_ga (fv_sa σ 36 7 (w &&& 255)) 36 7 = w &&& 255 from rfl, show fv_ga (fv_sa σ 36 7 (w &&& 255)) 36 8 = fv_ga σ 36 8 from rfl, hF.1]
    by_cases e1 : s = 0 <;> by_cases e2 : c = 0 <;> simp only [e1, e2, if_true, if_false] <;> rw [if_pos (by decide)]
  have M : ∀ (c s w : Int32), zX8_adjust_149 (fv_ga τ 23 6) c s 7 w τ = fv_rv (fv_sa (fv_sa τ 23 7 (w &&& 255)) 23 6 ((((p_sh (w &&& 255) ||| p_pa (w &&& 255)) ||| (fv_ga τ 23 6 &&& 2)) ||| (if s = 0 then 0 else 16)) ||| (if c = 0 then 0 else 1))) := by
    intro c s w
    unfold zX8_adjust_149 zX8_adjust_197 zX8_adjust_209
    rw [if_pos (by decide), show fv_ga (fv_sa τ 23 7 (w &&& 255)) 23 7 = w &&& 255 from rfl, m_signs, fv_bi_ri, m_parity, fv_bi_ri, show fv_ga (fv_sa τ 23 7 (w &&& 255)) 23 7 = w &&& 255 from rfl]
    by_cases e1 : s = 0 <;> by_cases e2 : c = 0 <;> simp only [e1, e2, if_true, if_false] <;> refine (if_pos (by decide)).trans ?_ <;> exact congrArg (fun u => fv_rv (fv_sa (fv_sa τ 23 7 (w &&& 255)) 23 6 u)) (p_orc _ _ _)
  have R : ∀ (c s w : Int32), ∃ σ' τ', zX7_adjust_138 c s 7 w σ = fv_rv σ' ∧ zX8_adjust_149 (fv_ga τ 23 6) c s 7 w τ = fv_rv τ' ∧ pRel σ0 τ0 p q σ' τ' := by
    intro c s w
    refine ⟨_, _, X c s w, M c s w, e_f (e_r h 7 (by decide) (by decide) (pb_a255 w)) ?_⟩
    refine pb_or (pb_or (pb_or (pb_or (pb_sh _) (pb_pa _)) (pb_and _ _ rfl)) ?_) ?_
    · split <;> rfl
    · split <;> rfl
  have I : ∀ m, zX7_is m σ = fv_ri (if fv_ga τ 23 6 &&& m = 0 then 0 else 1) σ := by
    intro m
    unfold zX7_is
    rw [hF.1]
    split <;> rfl
  unfold zX7_adjust zX8_adjust
  rw [hA.1]
  rcases p_bit1 (fv_ga τ 23 6) with hC | hC <;> by_cases h1 : fv_ga τ 23 7 ≤ 153 <;> by_cases h2 : fv_ga τ 23 7 &&& 15 ≤ 9 <;> by_cases h3 : fv_ga τ 23 6 &&& 16 = 0 <;> by_cases h4 : fv_ga τ 23 6 &&& 2 = 0 <;> by_cases h5 : 6 ≤ fv_ga τ 23 7 &&& 15 <;>
    simp (decide := true) only [hC, h1, h2, h3, h4, h5, zX7_adjust_22, zX7_adjust_38, zX7_adjust_43, zX7_adjust_57, zX7_adjust_63, zX7_adjust_73, zX7_adjust_106, zX7_adjust_111, zX8_adjust_35, zX8_adjust_40, zX8_adjust_55, zX8_adjust_61, zX8_adjust_72, zX8_adjust_86, zX8_adjust_110, zX8_adjust_125, I, fv_bi_ri, if_true, if_false, not_true, not_false_eq_true] <;> exact R _ _ _
theorem c_alone {σ0 τ0 σ τ : fv_S} {p q : Int32} (h : pRel σ0 τ0 p q σ τ) {y : Int32} (hy : p_y8 y) : ∃ σ' τ', zX7_single y σ = fv_rv σ' ∧ zX8_doAlone y τ = fv_rv τ' ∧ pRel σ0 τ0 p q σ' τ' := by
  have hA := g_r h 7 (by decide) (by decide)
  have hF := g_f h
  rcases hy with rfl | rfl | rfl | rfl | rfl | rfl | rfl | rfl
  · obtain ⟨σ', τ', x, m, r⟩ := c_acc h (y := 0) (by simp [p_q4])
    refine ⟨σ', τ', ?_, m, r⟩
    unfold zX7_single; rw [if_neg (by decide), if_neg (by decide), if_neg (by decide), if_neg (by decide), x, fv_bv_rv]
  · obtain ⟨σ', τ', x, m, r⟩ := c_acc h (y := 1) (by simp [p_q4])
    refine ⟨σ', τ', ?_, m, r⟩
    unfold zX7_single; rw [if_neg (by decide), if_neg (by decide), if_neg (by decide), if_neg (by decide), x, fv_bv_rv]
  · obtain ⟨σ', τ', x, m, r⟩ := c_acc h (y := 2) (by simp [p_q4])
    refine ⟨σ', τ', ?_, m, r⟩
    unfold zX7_single; rw [if_neg (by decide), if_neg (by decide), if_neg (by decide), if_neg (by decide), x, fv_bv_rv]
  · obtain ⟨σ', τ', x, m, r⟩ := c_acc h (y := 3) (by simp [p_q4])
    refine ⟨σ', τ', ?_, m, r⟩
    unfold zX7_single; rw [if_neg (by decide), if_neg (by decide), if_neg (by decide), if_neg (by decide), x, fv_bv_rv]
  · obtain ⟨σ', τ', x, m, r⟩ := c_daa h
    refine ⟨σ', τ', ?_, ?_, r⟩
    · unfold zX7_single; rw [if_pos rfl, x, fv_bv_rv]
    · unfold zX8_doAlone; rw [if_neg (by decide), if_neg (by decide), if_neg (by decide), if_neg (by decide), if_pos rfl, m, fv_bv_rv]
  · refine ⟨_, _, ?_, rfl, e_f (e_r h 7 (by decide) (by decide) (pb_xor hA.2 (show pb 255 from rfl))) (pb_or (pb_or (pb_and _ _ rfl) (show pb 18 from rfl)) (pb_and _ _ rfl))⟩
    unfold zX7_single; rw [if_neg (by decide), if_pos rfl, hA.1, hF.1, Int32.or_assoc (fv_ga τ 23 6 &&& 197)]; rfl
  · refine ⟨_, _, ?_, rfl, e_f h (pb_or (pb_or (pb_and _ _ rfl) (show pb 1 from rfl)) (pb_and _ _ rfl))⟩
    unfold zX7_single; rw [if_neg (by decide), if_neg (by decide), if_pos rfl, hA.1, hF.1]
  · have kx : zX7_single 7 σ = fv_rv (fv_sa σ 36 8 (((fv_ga τ 23 6 &&& 196) ||| (if fv_ga τ 23 6 &&& 1 = 0 then 1 else 16)) ||| (fv_ga τ 23 7 &&& 40))) := by
      unfold zX7_single zX7_is zX7_single_156
      rw [if_neg (by decide), if_neg (by decide), if_neg (by decide), if_pos rfl, hF.1]
      by_cases e : fv_ga τ 23 6 &&& 1 = 0
      · simp only [e, if_true, fv_bi_ri]
        rw [if_pos (by decide), hA.1]
      · simp only [e, if_false, fv_bi_ri]
        rw [if_neg (by decide), if_pos (by decide), hA.1]
    refine ⟨_, _, kx, ?_, e_f h (pb_or (pb_or (pb_and _ _ rfl) ?_) (pb_and _ _ rfl))⟩
    · unfold zX8_doAlone
      rw [if_neg (by decide), if_neg (by decide), if_neg (by decide), if_neg (by decide), if_neg (by decide), if_neg (by decide), if_neg (by decide)]
      rcases p_bit1 (fv_ga τ 23 6) with e | e <;> rw [e]
      · rw [if_pos rfl, show ((0 : Int32) <<< (4 : Int32)) = 0 from rfl, Int32.or_zero]; rfl
      · rw [if_neg (by decide), show ((1 : Int32) ^^^ (1 : Int32)) = 0 from rfl, Int32.or_zero]; rfl
    · split <;> rfl
theorem x_is {σ0 τ0 σ τ : fv_S} {p q : Int32} (h : pRel σ0 τ0 p q σ τ) (m : Int32) : zX7_is m σ = fv_ri (if fv_ga τ 23 6 &&& m = 0 then 0 else 1) σ := by
  unfold zX7_is; rw [(g_f h).1]; split <;> rfl
/-- conditions -/
theorem c_holds {σ0 τ0 σ τ : fv_S} {p q : Int32} (h : pRel σ0 τ0 p q σ τ) (c : Int32) : ∃ v, p_bit v ∧ zX7_holds c σ = fv_ri v σ ∧ zX8_holds c τ = fv_ri v τ := by
  have k : ∀ m, ∃ v, p_bit v ∧ zX7_holds_32 c m σ = fv_ri v σ ∧ zX8_holds_32 c m τ = fv_ri v τ := by
    intro m
    unfold zX7_holds_32 zX8_holds_32 zX8_holds_50 zX7_holds_50 zX8_holds_62
    rw [x_is h]
    rcases p_bit1 c with e1 | e1 <;> by_cases e2 : fv_ga τ 23 6 &&& m = 0 <;> simp (decide := true) only [e1, e2, fv_bi_ri, if_true, if_false, not_true, not_false_eq_true]
    · exact ⟨1, Or.inr rfl, rfl, rfl⟩
    · exact ⟨0, Or.inl rfl, rfl, rfl⟩
    · exact ⟨0, Or.inl rfl, rfl, rfl⟩
    · exact ⟨1, Or.inr rfl, rfl, rfl⟩
  unfold zX7_holds zX8_holds
  split
  · split
    · split <;> exact k _
    · exact k _
  · exact k _
/-- exchanges -/
theorem c_exaf {σ0 τ0 σ τ : fv_S} {p q : Int32} (h : pRel σ0 τ0 p q σ τ) (n : Nat) : ∃ σ' τ' τ1, zX7_swap (n + 10) 7 8 σ = fv_rv σ' ∧ zX8_exchange 7 τ = fv_rv τ1 ∧ zX8_exchange 6 τ1 = fv_rv τ' ∧ pRel σ0 τ0 p q σ' τ' := by
  have a := g_r h 7 (by decide) (by decide)
  have b := g_o h 7 (by decide) (by decide)
  have c := g_f h
  have d := g_of h
  refine ⟨_, _, fv_sa (fv_sa τ 23 7 (fv_ga τ 24 7)) 24 7 (fv_ga τ 23 7), ?_, rfl, ?_, e_of (e_f (e_o (e_r h 7 (by decide) (by decide) b.2) 7 (by decide) (by decide) a.2) d.2) c.2⟩
  · rw [← a.1, ← b.1, ← c.1, ← d.1]; rfl
  · rfl
theorem c_exx {σ0 τ0 σ τ : fv_S} {p q : Int32} (h : pRel σ0 τ0 p q σ τ) (n : Nat) : ∃ σ' τ', zX7_swap (n + 10) 0 5 σ = fv_rv σ' ∧ zX8_doReturns_71 (n + 10) (n + 10) 0 τ = fv_rv τ' ∧ pRel σ0 τ0 p q σ' τ' := by
  have s1 : ∀ {σ τ : fv_S} (_ : pRel σ0 τ0 p q σ τ) (k : Int32) (_ : k.toNatClampNeg < 8 ∧ k.toNatClampNeg ≠ 6), pRel σ0 τ0 p q (fv_sa (fv_sa σ 36 k (fv_ga σ 37 k)) 37 k (fv_ga σ 36 k)) (fv_sa (fv_sa τ 23 k (fv_ga τ 24 k)) 24 k (fv_ga τ 23 k)) := by
    intro σ τ h k hk
    have a := g_r h k hk.1 hk.2
    have b := g_o h k hk.1 hk.2
    rw [a.1, b.1]
    exact e_o (e_r h k hk.1 hk.2 b.2) k hk.1 hk.2 a.2
  exact ⟨_, _, rfl, rfl, s1 (s1 (s1 (s1 (s1 (s1 h 0 (by decide)) 1 (by decide)) 2 (by decide)) 3 (by decide)) 4 (by decide)) 5 (by decide)⟩
