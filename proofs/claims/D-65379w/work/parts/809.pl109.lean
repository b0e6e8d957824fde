set_option maxRecDepth 100000
set_option maxHeartbeats 4000000
/-! The plain law: the model's pass. -/
theorem qT_0 {B : Nat → Nat} {n p : Nat} (h : (qT B n p).1 = 0) : (qT B n p).2.1 = qeol B n (qT B n p).2.2.1 := by
  unfold qT at h ⊢
  generalize qrun (fun i => qbl (B i)) n p = q at h ⊢
  have tn : ∀ r s, (qTn B n r q s).1 ≠ 0 := by
    intro r s; unfold qTn; split
    · show (6 : Nat) ≠ 0; omega
    · show (2 : Nat) ≠ 0; omega
  revert h
  unfold qTq
  split
  · rename_i h10
    intro _
    exact (qrun_e (show (!(B q == 10)) = false by simp [h10])).symm
  split
  · intro _; rfl
  split
  · split
    · intro e; exact absurd e (show (6 : Nat) ≠ 0 by omega)
    · intro e; exact absurd e (show (1 : Nat) ≠ 0 by omega)
  split
  · intro e; exact absurd e (tn _ _)
  split
  · intro e; exact absurd e (tn _ _)
  split
  · intro e; exact absurd e (tn _ _)
  split
  · split
    · intro e; exact absurd e (show (2 : Nat) ≠ 0 by omega)
    · intro e; exact absurd e (show (6 : Nat) ≠ 0 by omega)
  split
  · split
    · intro e; exact absurd e (show (3 : Nat) ≠ 0 by omega)
    · intro e; exact absurd e (show (6 : Nat) ≠ 0 by omega)
  split
  · intro e; exact absurd e (show (if B q = 60 then 4 else 5) ≠ 0 by split <;> omega)
  split
  · rename_i hg; intro e; have := qsg_lt hg; exact absurd e (show B q ≠ 0 by omega)
  · intro e; exact absurd e (show (6 : Nat) ≠ 0 by omega)
def mFq2 (τ τ' : fv_S) : Prop := (∀ k, k ≤ 1 ∨ (46 ≤ k ∧ k ≤ 54) ∨ 58 ≤ k → fv_gi τ' k = fv_gi τ k) ∧ (∀ k, k ≠ 7 → fv_gl τ' k = fv_gl τ k) ∧ (∀ a, a ≤ 1 ∨ a = 13 ∨ 17 ≤ a → fv_gw τ' a = fv_gw τ a) ∧ fv_n τ' = fv_n τ
theorem mFq2_r (τ : fv_S) : mFq2 τ τ := ⟨fun _ _ => rfl, fun _ _ => rfl, fun _ _ => rfl, rfl⟩
theorem mFq2_t {a b c : fv_S} (h : mFq2 a b) (g : mFq2 b c) : mFq2 a c := ⟨fun k hk => (g.1 k hk).trans (h.1 k hk), fun k hk => (g.2.1 k hk).trans (h.2.1 k hk), fun k hk => (g.2.2.1 k hk).trans (h.2.2.1 k hk), g.2.2.2.trans h.2.2.2⟩
theorem mFq2_o {a b : fv_S} (h : mFo a b) : mFq2 a b := ⟨fun k hk => h.1 k (by omega), h.2.1, h.2.2.1, h.2.2.2⟩
theorem mFq2_si {a b : fv_S} (h : mFq2 a b) (k : Nat) (v : Int32) (hk : 2 ≤ k ∧ k ≤ 57 ∧ ¬ (46 ≤ k ∧ k ≤ 54)) : mFq2 a (fv_si b k v) := ⟨fun j hj => (if_neg (show j ≠ k by omega)).trans (h.1 j hj), h.2.1, h.2.2.1, h.2.2.2⟩
/-- how a pass ends in the model -/
def mPo (B : Nat → Nat) (n : Nat) (sec : Bool) (r : qPr) (τ : fv_S) (out : Option fv_O) : Prop := match r with
  | .inl g => ∃ τ', out = fv_ri 0 τ' ∧ fv_gi τ' 8 = Int32.ofNat g.2.1 ∧ fv_gi τ' 9 = Int32.ofNat g.2.2 ∧ mFq2 τ τ' ∧ fv_gi τ' 41 = Int32.ofNat g.1
  | .inr g => ∃ τ', out = fv_ri 1 τ' ∧ mFq2 τ τ' ∧ mZ B n sec g.2.1 g.2.2.1 [] g.2.2.1 (fv_si τ' 21 (Int32.ofNat g.2.2.1)) ∧ fv_gi τ' 41 = Int32.ofNat g.1 ∧ (sec = true → mMe g.2.2.2 τ') ∧ (sec = false → mMs τ τ')
theorem mPo_t {B : Nat → Nat} {n : Nat} {sec : Bool} {r : qPr} {τ0 τ : fv_S} {out : Option fv_O} (f : mFq2 τ0 τ) (ms : sec = false → mMs τ0 τ) (h : mPo B n sec r τ out) : mPo B n sec r τ0 out := by
  cases r with
  | inl g => obtain ⟨τ', h1, h2, h3, h4, h5⟩ := h; exact ⟨τ', h1, h2, h3, mFq2_t f h4, h5⟩
  | inr g => obtain ⟨τ', h1, h2, h3, h4, h5, h6⟩ := h; exact ⟨τ', h1, mFq2_t f h2, h3, h4, h5, fun e => mMs_t (ms e) (h6 e)⟩
theorem mZ_21 {B : Nat → Nat} {n : Nat} {sec : Bool} {L : List (List Nat × Int32)} {h : Nat} {I : List (Bool × Bool)} {org : Nat} {τ : fv_S} (z : mZ B n sec L h I org τ) (k : Nat) : mZ B n sec L h I k (fv_si τ 21 (Int32.ofNat k)) := by
  obtain ⟨z1, z2, z3, z4, z5, z6, z7, z8⟩ := z
  exact ⟨⟨z1.1, z1.2⟩, ⟨z2.1, z2.2⟩, z3, z4, rfl, z6, z7, mIf_c I τ _ (fun _ _ => ⟨rfl, rfl⟩) z8⟩
theorem mZ_2 {B : Nat → Nat} {n : Nat} {sec : Bool} {L : List (List Nat × Int32)} {h : Nat} {I : List (Bool × Bool)} {org : Nat} {τ τ' : fv_S} (z : mZ B n sec L h I org τ) (g : ∀ j, j ≠ 2 → j ≠ 41 → fv_gi τ' j = fv_gi τ j) (e : τ'.2 = τ.2) : mZ B n sec L h I org τ' := by
  have gw : ∀ a, fv_gw τ' a = fv_gw τ a := fun a => by show τ'.2.2.1 a = _; rw [e]
  obtain ⟨z1, z2, z3, z4, z5, z6, z7, z8⟩ := z
  exact ⟨⟨(g 1 (by omega) (by omega)).trans z1.1, by rw [gw]; exact z1.2⟩, ⟨(g 13 (by omega) (by omega)).trans z2.1, z2.2.1, by rw [gw, gw, gw]; exact z2.2.2⟩, (g _ (by omega) (by omega)).trans z3, (g _ (by omega) (by omega)).trans z4, (g _ (by omega) (by omega)).trans z5, (g _ (by omega) (by omega)).trans z6, (g _ (by omega) (by omega)).trans z7, mIf_c I τ _ (fun i _ => by rw [gw, gw]; exact ⟨rfl, rfl⟩) z8⟩
/-- to the next line -/
theorem m_71 {B : Nat → Nat} {n N : Nat} (hS : qS B n) (k20 : fv_S → Option fv_O) : ∀ (d r m : Nat) (τ : fv_S), n - r = d → r ≤ n → d + 1 ≤ m → qM B n τ → fv_gi τ 2 = Int32.ofNat r → ∃ τ', zX8_pass_71 N k20 m τ = k20 τ' ∧ (∀ j, j ≠ 2 → fv_gi τ' j = fv_gi τ j) ∧ τ'.2 = τ.2 ∧ fv_gi τ' 2 = Int32.ofNat (qeol B n r + 1) := by
  have hn := hS.1
  intro d
  induction d with
  | zero =>
    intro r m τ e hr hm h g
    obtain ⟨m, rfl⟩ : ∃ j, m = j + 1 := ⟨m - 1, by omega⟩
    have b10 : B r = 10 := hS.2.2 r (by omega)
    refine ⟨fv_si τ 2 (Int32.ofNat (r + 1)), ?_, fun j hj => if_neg hj, rfl, ?_⟩
    · show zX8_pass_71_b N k20 _ τ = _
      unfold zX8_pass_71_b
      rw [g, m_by hS h r (by omega), fv_bi_ri, b10, if_pos (show Int32.ofNat 10 = 10 from rfl), g, p_sucN]
    · rw [show qeol B n r = r from qrun_n (by omega)]; rfl
  | succ d ih =>
    intro r m τ e hr hm h g
    obtain ⟨m, rfl⟩ : ∃ j, m = j + 1 := ⟨m - 1, by omega⟩
    have e10 : Int32.ofNat (B r) = 10 ↔ B r = 10 := p_eqN _ 10 (by have := hS.2.1 r; omega) (by omega)
    by_cases c : B r = 10
    · refine ⟨fv_si τ 2 (Int32.ofNat (r + 1)), ?_, fun j hj => if_neg hj, rfl, ?_⟩
      · show zX8_pass_71_b N k20 _ τ = _
        unfold zX8_pass_71_b
        rw [g, m_by hS h r (by omega), fv_bi_ri, if_pos (e10.2 c), g, p_sucN]
      · rw [show qeol B n r = r from qrun_e (by show (!(B r == 10)) = false; simp [c])]; rfl
    · obtain ⟨τ', x, f1, f2, g2⟩ := ih (r + 1) m (fv_si τ 2 (Int32.ofNat (r + 1))) (by omega) (by omega) (by omega) ⟨h.1, h.2⟩ rfl
      refine ⟨τ', ?_, fun j hj => (f1 j hj).trans (if_neg hj), f2, ?_⟩
      · show zX8_pass_71_b N k20 _ τ = _
        unfold zX8_pass_71_b
        rw [g, m_by hS h r (by omega), fv_bi_ri, if_neg (fun x => c (e10.1 x)), g, p_sucN]
        exact x
      · rw [show qeol B n r = qeol B n (r + 1) from qrun_s (show r < n by omega) (by show (!(B r == 10)) = true; simp [c])]; exact g2
theorem m_ps {B : Nat → Nat} {n N : Nat} (hS : qS B n) (hN : 70000 ≤ N) {sec : Bool} : ∀ (f ln p : Nat) (L : List (List Nat × Int32)) (h : Nat) (I : List (Bool × Bool)) (M : qMem) (m : Nat) (p2 : Nat) (τ : fv_S), 301 - ln ≤ f → ln ≤ 300 → 302 - ln ≤ m → p ≤ n → h ≤ 65536 → I.length ≤ 8 → mZ B n sec L h I h (fv_si τ 21 (Int32.ofNat h)) → fv_gi τ 2 = Int32.ofNat p2 → (p2 = p ∨ (p = n ∧ p2 = n + 1)) → fv_gi τ 41 = Int32.ofNat ln → (sec = true → mMe M τ) → (sec = true → M.2.1 ≤ ln * 65536) → (sec = true → ∃ L1 M1 r, qPs B n false f ln p L1 h I M1 = .inr r ∧ r.2.1 = L) →
    mPo B n sec (qPs B n sec f ln p L h I M) τ (zX8_pass_20 N m τ) := by
  have hn := hS.1
  have hN7 : 7000 ≤ N := by omega
  intro f
  induction f with
  | zero => intro ln p L h I M m p2 τ hf hln; omega
  | succ f ih =>
    intro ln p L h I M m p2 τ hf hln hm hp h6 hI z g2 hp2 g41 hM hB hG
    obtain ⟨m, rfl⟩ : ∃ j, m = j + 1 := ⟨m - 1, by omega⟩
    have z0 := z
    obtain ⟨z1, z2, z3, z4, z5, z6, z7, z8⟩ := z
    have z1' : fv_gi τ 1 = Int32.ofNat n := z1.1
    have z4' : fv_gi τ 20 = Int32.ofNat h := z4
    have z6' : fv_gi τ 8 = 0 := z6
    have z7' : fv_gi τ 45 = Int32.ofNat I.length := z7
    show mPo B n sec _ τ (zX8_pass_20_b N (zX8_pass_20 N m) τ)
    unfold zX8_pass_20_b
    rw [z1', g2, z7', g41]
    have enp : Int32.ofNat n ≤ Int32.ofNat p2 ↔ n ≤ p := (p_leN n p2 (by omega) (by omega)).trans (by omega)
    by_cases c : n ≤ p
    · rw [qPs_e c, if_pos (enp.2 c)]
      by_cases c0 : I.length = 0
      · have hI0 : I = [] := List.length_eq_zero_iff.1 c0
        rw [if_pos c0, if_pos (show Int32.ofNat I.length ≤ 0 by rw [c0]; decide)]
        subst hI0
        exact ⟨τ, rfl, mFq2_r τ, z0, g41, hM, fun _ => ⟨rfl, rfl, rfl⟩⟩
      · rw [if_neg c0, if_neg (show ¬ Int32.ofNat I.length ≤ 0 from fun e => by have := (p_leN I.length 0 (by omega) (by omega)).1 e; omega)]
        obtain ⟨τ', y1, y2, y3, y4, y5⟩ := mFx_w z6' (7, n) ⟨by show 1 ≤ 7; omega, by show 7 ≤ 9; omega⟩
        exact ⟨τ', y1, y2, y3, mFq2_o y5, (y5.1 41 (by omega)).trans g41⟩
    have pp : p2 = p := by omega
    subst pp
    rw [if_neg (fun e => c (enp.1 e)), p_sucN]
    have e300 : Int32.ofNat (ln + 1) ≤ 300 ↔ ln + 1 ≤ 300 := p_leN (ln + 1) 300 (by omega) (by omega)
    by_cases d : ln + 1 ≤ 300
    rotate_left
    · rw [qPs_9 c d, if_neg (fun e => d (e300.1 e))]
      obtain ⟨τ', y1, y2, y3, y4, y5⟩ := mFx_w (τ := fv_si τ 41 (Int32.ofNat (ln + 1))) z6' (9, p2) ⟨by show 1 ≤ 9; omega, by show 9 ≤ 9; omega⟩
      exact ⟨τ', y1, y2, y3, mFq2_t (mFq2_si (mFq2_r τ) 41 _ (by omega)) (mFq2_o y5), (y5.1 41 (by omega)).trans rfl⟩
    rw [if_pos (e300.2 d)]
    unfold zX8_readLine
    rw [show fv_gi (fv_si τ 41 (Int32.ofNat (ln + 1))) 20 = Int32.ofNat h from z4']
    have zz : mZ B n sec L h I h (fv_si (fv_si τ 41 (Int32.ofNat (ln + 1))) 21 (Int32.ofNat h)) := ⟨⟨z1.1, z1.2⟩, ⟨z2.1, z2.2⟩, z3, z4, rfl, z6, z7, mIf_c I (fv_si τ 21 (Int32.ofNat h)) _ (fun _ _ => ⟨rfl, rfl⟩) z8⟩
    have s41 : fv_gi (fv_si (fv_si τ 41 (Int32.ofNat (ln + 1))) 21 (Int32.ofNat h)) 41 = Int32.ofNat (ln + 1) := rfl
    have s2 : fv_gi (fv_si (fv_si τ 41 (Int32.ofNat (ln + 1))) 21 (Int32.ofNat h)) 2 = Int32.ofNat p2 := g2
    have sq : mFq2 τ (fv_si (fv_si τ 41 (Int32.ofNat (ln + 1))) 21 (Int32.ofNat h)) := mFq2_si (mFq2_si (mFq2_r τ) 41 _ (by omega)) 21 _ (by omega)
    have ss : mMs τ (fv_si (fv_si τ 41 (Int32.ofNat (ln + 1))) 21 (Int32.ofNat h)) := ⟨rfl, rfl, rfl⟩
    generalize fv_si (fv_si τ 41 (Int32.ofNat (ln + 1))) 21 (Int32.ofNat h) = s at zz s41 s2 sq ss ⊢
    have sM : sec = true → mMe M s := fun hs => mMe_s (hM hs) ss
    rw [m_done hN7 zz.2.2.2.2.2.2.1 hI zz.2.2.2.2.2.2.2, fv_bi_ri]
    -- the line's end
    have fin : ∀ (e r : Nat) (L' : List (List Nat × Int32)) (h' : Nat) (I' : List (Bool × Bool)) (M' : qMem) (org : Nat) (s1 : fv_S), e ≤ n → r ≤ n → qeol B n r = e → fv_gi s1 2 = Int32.ofNat r → mZ B n sec L' h' I' org s1 → mFo s s1 → (sec = true → mMe M' s1) → (sec = false → mMs s s1) → h' ≤ 65536 → I'.length ≤ 8 → (sec = true → M'.2.1 ≤ (ln + 1) * 65536) → (sec = true → ∃ L1 M1 r, qPs B n false f (ln + 1) (qnx n e) L1 h' I' M1 = .inr r ∧ r.2.1 = L') →
        mPo B n sec (qPs B n sec f (ln + 1) (qnx n e) L' h' I' M') τ (fv_bi (fv_ri 1 s1) (fun r7 σ6 => if ¬ r7 = 0 then zX8_pass_71 N (zX8_pass_20 N m) N σ6 else fv_ri 0 σ6) fv_no) := by
      intro e r L' h' I' M' org s1 he hr her g1 z1 fo1 M1 ms1 h6' hI' hB' hG'
      rw [fv_bi_ri, if_pos (show ¬ (1 : Int32) = 0 by decide)]
      obtain ⟨s2, x2, f2, f2', k2⟩ := m_71 (N := N) hS (zX8_pass_20 N m) (n - r) r N s1 rfl hr (by omega) z1.1 g1
      rw [her] at k2
      have zf := mZ_21 (mZ_2 z1 (τ' := s2) (fun j a _ => f2 j a) f2') h'
      have ms2 : mMs s1 s2 := ⟨by show s2.2.2.1 14 = _; rw [f2'], f2 39 (by omega), f2 40 (by omega)⟩
      have q2 : mFq2 s1 s2 := ⟨fun k hk => f2 k (by omega), fun k _ => by show s2.2.1 k = _; rw [f2'], fun a _ => by show s2.2.2.1 a = _; rw [f2'], by show s2.2.2.2 = _; rw [f2']⟩
      rw [x2]
      have hp2' : e + 1 = qnx n e ∨ (qnx n e = n ∧ e + 1 = n + 1) := by unfold qnx; split <;> omega
      exact mPo_t (mFq2_t (mFq2_t sq (mFq2_o fo1)) q2) (fun hs => mMs_t (mMs_t ss (ms1 hs)) ms2) (ih (ln + 1) (qnx n e) L' h' I' M' m (e + 1) s2 (by omega) (by omega) (by omega) (by unfold qnx; split <;> omega) h6' hI' zf k2 hp2' ((f2 41 (by omega)).trans ((fo1.1 41 (by omega)).trans s41)) (fun hs => mMe_s (M1 hs) ms2) hB' hG')
    cases hd : qid I with
    | true =>
      rw [if_pos (show ¬ q01 true = 0 by decide)]
      have key : sec = true → ((qT B n (qLp B n p2)).1 = 1 → qiq B n (qT B n (qLp B n p2)).2.2.1 = false → qSk B n (qri (qna B (qT B n (qLp B n p2)))) (qT B n (qLp B n p2)).2.2.1) ∧ (qLn B n sec L h h I M p2).2.2.2.1 ≤ 65536 ∧ (∃ L1 M1 r, qPs B n false f (ln + 1) (qnx n (qT B n (qou (qLn B n sec L h h I M p2).2.1)).2.1) L1 (qLn B n sec L h h I M p2).2.2.2.1 (qLn B n sec L h h I M p2).2.2.2.2.1 M1 = .inr r ∧ r.2.1 = (qLn B n sec L h h I M p2).2.2.1) := by
        intro hs
        subst hs
        obtain ⟨L1, M1, r, e, eL⟩ := hG rfl
        cases hg1 : qLfa B n false L1 h h I M1 p2 with
        | some g => rw [qPs_lf c d hd hg1] at e; exact absurd e (by simp)
        | none =>
          rw [qPs_ln c d hd hg1] at e
          have hq : qnx n (qT B n (qou (qLn B n false L1 h h I M1 p2).2.1)).2.1 ≤ n := by
            unfold qnx; split <;> omega
          obtain ⟨X, hX⟩ := qPs_L hS _ _ _ _ _ _ _ r hq e
          obtain ⟨st, _, o1, l1, h1, i1'⟩ := q_lnf (X := X) (M := M) hS hp hg1
          obtain ⟨_, _, _, _, hle⟩ := qLF_n hg1
          have eL2 : L = (qLn B n false L1 h h I M1 p2).2.2.1 ++ X := eL.symm.trans hX
          rw [eL2]
          exact ⟨st, by rw [h1]; exact hle, _, _, r, by rw [o1, h1, i1']; exact e, by rw [l1]; exact hX⟩
      have bnd := q_lnb hS hp (sec := sec) (L := L) (org := h) (M := M) h6 hI
      have R := m_line (N := N) (M := M) hS hN zz hp s2 hI h6 sM (fun hs => by have := hB hs; omega) (fun hs => (key hs).1) (fun hs => (key hs).2.1)
      show mPo B n sec _ τ (fv_bi (m_rest N s) _ fv_no)
      cases hg : qLfa B n sec L h h I M p2 with
      | some g =>
        rw [hg] at R
        obtain ⟨s1, y1, y2, y3, y4, y5⟩ := R
        rw [qPs_lf c d hd hg, y1, fv_bi_ri, if_neg (show ¬ ¬ (0 : Int32) = 0 from not_not_intro rfl)]
        exact ⟨s1, rfl, y2, y3, mFq2_t sq (mFq2_o y5), (y5.1 41 (by omega)).trans s41⟩
      | none =>
        rw [hg] at R
        obtain ⟨p', s1, ho, hend, hp', y1, y2, y3, y4, y5, y6⟩ := R
        obtain ⟨p3, ho2, _, hle⟩ := (qLF_n hg).2
        rw [qPs_ln c d hd hg, y1]
        have eo : qou (qLn B n sec L h h I M p2).2.1 = p' := by rw [ho]; rfl
        have hb := qT_b hS p' hp'
        rw [eo]
        refine fin (qT B n p').2.1 (qT B n p').2.2.1 _ _ _ _ h s1 hb.2.1 hb.2.2.1 (qT_0 hend).symm y3 y4 y2 y5 y6 hle (bnd.2.1 p' ho) (fun hs => ?_) (fun hs => ?_)
        · have := bnd.2.2 hle
          have := hB hs
          omega
        · have := (key hs).2.2
          rw [eo] at this; exact this
    | false =>
      rw [if_neg (show ¬ ¬ q01 false = 0 by decide)]
      have R := mSk_b (m_skip (N := N) hS hN7 zz hI hp s2)
      cases hg : qsky I (qskw B n p2) with
      | inl g =>
        rw [hg] at R
        obtain ⟨s1, y1, y2, y3, y4, y5⟩ := R
        rw [qPs_sf c d hd hg, y1, fv_bi_ri, if_neg (show ¬ ¬ (0 : Int32) = 0 from not_not_intro rfl)]
        exact ⟨s1, rfl, y2, y3, mFq2_t sq (mFq2_o y5), (y5.1 41 (by omega)).trans s41⟩
      | inr I' =>
        rw [hg] at R
        obtain ⟨s1, r, y1, y2, y3, y4, y5, y6, y7, y8⟩ := R
        rw [qPs_sk c d hd hg, y1]
        refine fin (qeol B n p2) r L h I' M h s1 (qeol_b hS hp).2.1 y7 y8.symm y5 y4 y2 (fun hs => mMe_s (sM hs) y3) (fun _ => y3) h6 (q_skI hI hg) (fun hs => ?_) (fun hs => ?_)
        · have t := hB hs
          have e : (ln + 1) * 65536 = ln * 65536 + 65536 := by rw [Nat.add_mul, Nat.one_mul]
          rw [e]
          exact Nat.le_trans t (Nat.le_add_right _ _)
        · obtain ⟨L1, M1, r, e, eL⟩ := hG hs
          rw [qPs_sk c d hd hg] at e
          exact ⟨L1, M1, r, e, eL⟩
