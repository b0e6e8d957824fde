set_option maxRecDepth 100000
set_option maxHeartbeats 4000000
/-! The plain law: the model reads an operand. -/
theorem Ps_rs {B : Nat → Nat} {n : Nat} {a : Option qSm} {l d p : Nat} {s : qSm} {o : qOu} (h : Ps B n a l d p s o) : a = none → (qT B n p).1 = 1 → qri (qna B (qT B n p)) < 99 → o = .inl (2, (qT B n p).2.1) := by
  refine h (fun a l d p s o => a = none → (qT B n p).1 = 1 → qri (qna B (qT B n p)) < 99 → o = .inl (2, (qT B n p).2.1)) ⟨?_, ?_, ?_, ?_, ?_, ?_, ?_, ?_, ?_, ?_, ?_, ?_, ?_, ?_, ?_⟩
  · intro d p h _ h1; omega
  · intro d p h _ h1; omega
  · intro d p h h2 _ h1 h3; omega
  · intro d p h h2 _ h1 h3; rfl
  · intro d p s o h hd h2 _ h1; omega
  · intro d p s f h hd h2 _ h1; omega
  · intro d p s p' h hd h2 h3 _ h1; omega
  · intro d p s p' h hd h2 h3 _ h1; omega
  · intro d p h hd _ h1; omega
  · intro d p h _ h1; omega
  · intro l d p s f h1 h6 h _ h2 h3; exact h rfl h2 h3
  · intro l d p s p' s' o h1 h6 h h2 _ h3 h4; exact absurd (h rfl h3 h4) (by simp)
  · intro s l d p h1 h6 h e; exact absurd e (by simp)
  · intro s l d p s2 f h1 h6 h h2 e; exact absurd e (by simp)
  · intro s l d p s2 p' s' o h1 h6 h h2 h3 e; exact absurd e (by simp)
theorem qEX_rs {B : Nat → Nat} {n p : Nat} (hS : qS B n) (hp : p ≤ n) (h : qrt B (qT B n p) < 99) : (qEX B n p).2 = .inl (2, (qT B n p).2.1) := by
  have t1 := qrt_lt rfl h
  unfold qrt at h
  rw [if_pos t1] at h
  exact Ps_rs (qEX_s hS hp) rfl t1 h
/-- what an operand leaves alone in the model -/
def mFq (o : Nat) (τ τ' : fv_S) : Prop := (∀ k, (k < 2 ∨ 6 < k) → k ≠ 8 → k ≠ 9 → k ≠ 16 → k ≠ 18 → k ≠ 19 → k ≠ 22 → k ≠ 28 → fv_gi τ' k = fv_gi τ k) ∧ (∀ k, k ≠ 7 → fv_gl τ' k = fv_gl τ k) ∧ (∀ a, a < 5 ∨ 12 < a → fv_gw τ' a = fv_gw τ a) ∧ (∀ a i, 8 ≤ a → a ≤ 12 → i ≠ o → fv_gw τ' a i = fv_gw τ a i) ∧ fv_n τ' = fv_n τ
theorem mFq_r (o : Nat) (τ : fv_S) : mFq o τ τ := ⟨fun _ _ _ _ _ _ _ _ _ => rfl, fun _ _ => rfl, fun _ _ => rfl, fun _ _ _ _ _ => rfl, rfl⟩
theorem mFq_t {o : Nat} {a b c : fv_S} (h : mFq o a b) (g : mFq o b c) : mFq o a c := ⟨fun k h1 h2 h3 h4 h5 h6 h7 h8 => (g.1 k h1 h2 h3 h4 h5 h6 h7 h8).trans (h.1 k h1 h2 h3 h4 h5 h6 h7 h8), fun k hk => (g.2.1 k hk).trans (h.2.1 k hk), fun k hk => (g.2.2.1 k hk).trans (h.2.2.1 k hk), fun k i h1 h2 h3 => (g.2.2.2.1 k i h1 h2 h3).trans (h.2.2.2.1 k i h1 h2 h3), g.2.2.2.2.trans h.2.2.2.2⟩
theorem mFq_e {o : Nat} {a b : fv_S} (h : mFe a b) : mFq o a b := ⟨fun k h1 h2 h3 h4 h5 h6 h7 _ => h.1 k h1 h2 h3 h4 h5 h6 h7, h.2.1, fun x hx => h.2.2.1 x (by omega) (by omega) (by omega), fun x i h1 h2 _ => congrFun (h.2.2.1 x (by omega) (by omega) (by omega)) i, h.2.2.2⟩
theorem mFq_q {o : Nat} {a b : fv_S} (h : qFt a b) : mFq o a b := mFq_e (mFe_q h)
theorem mFq_sa {o : Nat} (ho : o < 8) {a b : fv_S} (h : mFq o a b) (k : Nat) (v : Int32) (hk : 8 ≤ k ∧ k ≤ 12) : mFq o a (fv_sa b k (Int32.ofNat o) v) := by
  have e := p_clN o (by omega)
  refine ⟨h.1, h.2.1, fun x hx => (s_an _ _ _ _ _ (by omega)).trans (h.2.2.1 x hx), fun x i h1 h2 hi => ?_, h.2.2.2.2⟩
  by_cases c : x = k
  · subst c; rw [s_ai _ _ _ _ _ (by rw [e]; exact hi)]; exact h.2.2.2.1 x i h1 h2 hi
  · rw [s_an _ _ _ _ _ c]; exact h.2.2.2.1 x i h1 h2 hi
theorem mFo_p {o : Nat} {a b : fv_S} (h : mFq o a b) : mFo a b := ⟨fun k hk => h.1 k (by omega) (by omega) (by omega) (by omega) (by omega) (by omega) (by omega) (by omega), h.2.1, fun x hx => h.2.2.1 x (by omega), h.2.2.2.2⟩
theorem mMs_p {o : Nat} {a b : fv_S} (h : mFq o a b) : mMs a b := ⟨h.2.2.1 14 (by omega), h.1 39 (by omega) (by omega) (by omega) (by omega) (by omega) (by omega) (by omega) (by omega), h.1 40 (by omega) (by omega) (by omega) (by omega) (by omega) (by omega) (by omega) (by omega)⟩
theorem mZ_p {o : Nat} {B : Nat → Nat} {n : Nat} {sec : Bool} {L : List (List Nat × Int32)} {h : Nat} {I : List (Bool × Bool)} {org : Nat} {τ τ' : fv_S} (z : mZ B n sec L h I org τ) (f : mFq o τ τ') (h8 : fv_gi τ' 8 = 0) : mZ B n sec L h I org τ' := by
  obtain ⟨z1, z2, z3, z4, z5, z6, z7, z8⟩ := z
  have g : ∀ k, k = 1 ∨ k = 13 ∨ k = 42 ∨ k = 20 ∨ k = 21 ∨ k = 45 → fv_gi τ' k = fv_gi τ k := fun k hk => f.1 k (by omega) (by omega) (by omega) (by omega) (by omega) (by omega) (by omega) (by omega)
  have gw := f.2.2.1
  exact ⟨⟨(g 1 (by omega)).trans z1.1, by rw [gw 1 (by omega)]; exact z1.2⟩, ⟨(g 13 (by omega)).trans z2.1, z2.2.1, by rw [gw 2 (by omega), gw 3 (by omega), gw 4 (by omega)]; exact z2.2.2⟩, (g 42 (by omega)).trans z3, (g 20 (by omega)).trans z4, (g 21 (by omega)).trans z5, h8, (g 45 (by omega)).trans z7, mIf_c I τ τ' (fun i _ => by rw [gw 15 (by omega), gw 16 (by omega)]; exact ⟨rfl, rfl⟩) z8⟩
/-- the model's kinds of operands, and which -/
def qmk2 (c j : Nat) : Nat := if c = 1 then (if j ≤ 81 then 1 else if j = 82 then 6 else if j = 83 then 7 else if j = 84 then 3 else if j = 85 then 4 else if j ≤ 89 then 2 else if j ≤ 91 then 5 else 8) else if c = 2 then (if j = 88 then 9 else if j = 86 then 10 else if j = 87 then 11 else if j = 89 then 12 else 13) else if c ≤ 4 then 14 else if c = 5 then 15 else 16
def qmw (c j : Nat) : Nat := if c = 1 then (if j = 75 then 7 else if j ≤ 81 then j - 76 else if j ≤ 85 then 0 else if j ≤ 89 then j - 86 else if j ≤ 91 then j - 89 else if j = 92 then 0 else if j = 93 then 1 else if j = 94 then 2 else if j = 95 then 4 else if j = 96 then 5 else if j = 97 then 6 else 7) else if c = 3 ∨ c = 4 then j - 89 else 0
/-- the model holds an operand -/
def mOd (B : Nat → Nat) (n : Nat) (o c j : Nat) (neg : Bool) (pe : Nat) (τ : fv_S) : Prop := fv_gw τ 8 o = Int32.ofNat (qmk2 c j) ∧ fv_gw τ 9 o = Int32.ofNat (qmw c j) ∧ fv_gw τ 12 o = q01 (decide (c = 3)) ∧ fv_gw τ 11 o = q01 (decide (c = 4) && neg) ∧ (4 ≤ c → fv_gw τ 10 o = Int32.ofNat (qT B n pe).2.1)
theorem k_reg : ∀ j, j < 99 → 75 ≤ j → p_v (zX8_register8 (qwd (p_nm j)) p_σd) = (if j ≤ 81 then Int32.ofNat (qmw 1 j) else -1) ∧ p_v (zX8_pair (qwd (p_nm j)) p_σd) = (if 86 ≤ j ∧ j ≤ 89 then Int32.ofNat (qmw 1 j) else -1) ∧ p_v (zX8_index (qwd (p_nm j)) p_σd) = (if j = 90 ∨ j = 91 then Int32.ofNat (qmw 1 j) else -1) ∧ (j ≠ 77 → p_v (zX8_condition (qwd (p_nm j)) p_σd) = (if 92 ≤ j then Int32.ofNat (qmw 1 j) else -1)) := by decide +kernel
theorem K_reg8 (x : Int64) : p_K (fun τ => zX8_register8 x τ) := by
  unfold zX8_register8; repeat (first | exact p_Kr _ | with_reducible apply p_Ki)
theorem K_pair (x : Int64) : p_K (fun τ => zX8_pair x τ) := by
  unfold zX8_pair; repeat (first | exact p_Kr _ | with_reducible apply p_Ki)
theorem K_cond (x : Int64) : p_K (fun τ => zX8_condition x τ) := by
  unfold zX8_condition; repeat (first | exact p_Kr _ | with_reducible apply p_Ki)
theorem m_setR {o j : Nat} (ho : o < 8) (h1 : 75 ≤ j) (h2 : j < 99) {τ : fv_S} (h9 : fv_gw τ 9 o = 0) : ∃ τ', zX8_setRegister (Int32.ofNat o) (qwd (p_nm j)) τ = fv_rv τ' ∧ mFq o τ τ' ∧ (∀ k, fv_gi τ' k = fv_gi τ k) ∧ τ'.2.1 = τ.2.1 ∧ fv_gw τ' 8 o = Int32.ofNat (qmk2 1 j) ∧ fv_gw τ' 9 o = Int32.ofNat (qmw 1 j) ∧ (∀ a, a ≠ 8 → a ≠ 9 → fv_gw τ' a = fv_gw τ a) := by
  obtain ⟨i1, i2⟩ := p_inN o 8 ho (by omega)
  obtain ⟨k1, k2, k3, k4⟩ := k_reg j h2 h1
  have rd : ∀ (s : fv_S) (k : Nat) (v : Int32), fv_gw (fv_sa s k (Int32.ofNat o) v) k o = v := fun s k v => by
    have := s_ak s k (Int32.ofNat o) v
    rw [i2] at this; exact this
  have e1 : ∀ s, zX8_register8 (qwd (p_nm j)) s = fv_ri (if j ≤ 81 then Int32.ofNat (qmw 1 j) else -1) s := fun s => by rw [p_Kv (K_reg8 _) s, k1]
  have e2 : ∀ s, zX8_pair (qwd (p_nm j)) s = fv_ri (if 86 ≤ j ∧ j ≤ 89 then Int32.ofNat (qmw 1 j) else -1) s := fun s => by rw [p_Kv (K_pair _) s, k2]
  have e3 : ∀ s, zX8_index (qwd (p_nm j)) s = fv_ri (if j = 90 ∨ j = 91 then Int32.ofNat (qmw 1 j) else -1) s := fun s => by rw [p_Kv (K_m_index _) s, k3]
  have wl : ∀ j, j < 99 → qmw 1 j < 100 := by decide +kernel
  have wl := wl j h2
  have nn : ¬ Int32.ofNat (qmw 1 j) < 0 := fun e => by have := (p_ltN _ 0 (by omega) (by omega)).1 e; omega
  have set2 : ∀ kd : Nat, qmk2 1 j = kd → ∃ τ', fv_rv (fv_sa (fv_sa τ 8 (Int32.ofNat o) (Int32.ofNat kd)) 9 (Int32.ofNat o) (Int32.ofNat (qmw 1 j))) = fv_rv τ' ∧ mFq o τ τ' ∧ (∀ k, fv_gi τ' k = fv_gi τ k) ∧ τ'.2.1 = τ.2.1 ∧ fv_gw τ' 8 o = Int32.ofNat (qmk2 1 j) ∧ fv_gw τ' 9 o = Int32.ofNat (qmw 1 j) ∧ (∀ a, a ≠ 8 → a ≠ 9 → fv_gw τ' a = fv_gw τ a) := by
    intro kd hk
    refine ⟨_, rfl, mFq_sa ho (mFq_sa ho (mFq_r o τ) 8 _ (by omega)) 9 _ (by omega), fun _ => rfl, rfl, ?_, rd _ _ _, fun a h8 h9 => by rw [s_an _ _ _ _ _ h9, s_an _ _ _ _ _ h8]⟩
    rw [s_an _ _ _ _ _ (by omega), hk]; exact rd _ _ _
  have set1 : ∀ kd : Nat, qmk2 1 j = kd → qmw 1 j = 0 → ∃ τ', zX8_setRegister_161 (Int32.ofNat o) (Int32.ofNat kd) τ = fv_rv τ' ∧ mFq o τ τ' ∧ (∀ k, fv_gi τ' k = fv_gi τ k) ∧ τ'.2.1 = τ.2.1 ∧ fv_gw τ' 8 o = Int32.ofNat (qmk2 1 j) ∧ fv_gw τ' 9 o = Int32.ofNat (qmw 1 j) ∧ (∀ a, a ≠ 8 → a ≠ 9 → fv_gw τ' a = fv_gw τ a) := by
    intro kd hk hw
    unfold zX8_setRegister_161
    rw [if_pos i1]
    refine ⟨_, rfl, mFq_sa ho (mFq_r o τ) 8 _ (by omega), fun _ => rfl, rfl, by rw [hk]; exact rd _ _ _, ?_, fun a h8 _ => s_an _ _ _ _ _ h8⟩
    rw [s_an _ _ _ _ _ (by omega), hw]; exact h9
  unfold zX8_setRegister
  rw [e1, fv_bi_ri]
  by_cases c1 : j ≤ 81
  · rw [if_pos c1, if_neg nn, if_pos i1, e1, fv_bi_ri, if_pos i1, if_pos c1]
    exact set2 1 (by unfold qmk2; rw [if_pos rfl, if_pos c1])
  rw [if_neg c1, if_pos (by decide), e2, fv_bi_ri]
  by_cases c2 : 86 ≤ j ∧ j ≤ 89
  · rw [if_pos c2, if_neg nn, if_pos i1, e2, fv_bi_ri, if_pos i1, if_pos c2]
    exact set2 2 (by unfold qmk2; rw [if_pos rfl, if_neg c1, if_neg (by omega), if_neg (by omega), if_neg (by omega), if_neg (by omega), if_pos c2.2])
  rw [if_neg c2, if_pos (by decide), e3, fv_bi_ri]
  by_cases c3 : j = 90 ∨ j = 91
  · rw [if_pos c3, if_neg nn, if_pos i1, e3, fv_bi_ri, if_pos i1, if_pos c3]
    exact set2 5 (by unfold qmk2; rw [if_pos rfl, if_neg c1, if_neg (by omega), if_neg (by omega), if_neg (by omega), if_neg (by omega), if_neg (by omega), if_pos (by omega)])
  have e4 : ∀ s, zX8_condition (qwd (p_nm j)) s = fv_ri (if 92 ≤ j then Int32.ofNat (qmw 1 j) else -1) s := fun s => by rw [p_Kv (K_cond _) s, k4 (by omega)]
  rw [if_neg c3, if_pos (by decide), e4, fv_bi_ri]
  by_cases c4 : 92 ≤ j
  · rw [if_pos c4, if_neg nn, if_pos i1, e4, fv_bi_ri, if_pos i1, if_pos c4]
    exact set2 8 (by unfold qmk2; rw [if_pos rfl, if_neg c1, if_neg (by omega), if_neg (by omega), if_neg (by omega), if_neg (by omega), if_neg (by omega), if_neg (by omega)])
  rw [if_neg c4, if_pos (by decide)]
  have hj : j = 82 ∨ j = 83 ∨ j = 84 ∨ j = 85 := by omega
  rcases hj with rfl | rfl | rfl | rfl
  · rw [if_pos (show ¬ lg_cmp (qwd (p_nm 82)) 16710 = 0 by decide +kernel), if_pos (show ¬ lg_cmp (qwd (p_nm 82)) 4277799 = 0 by decide +kernel), if_neg (show ¬ ¬ lg_cmp (qwd (p_nm 82)) 73 = 0 by decide +kernel)]
    exact set1 6 rfl rfl
  · rw [if_pos (show ¬ lg_cmp (qwd (p_nm 83)) 16710 = 0 by decide +kernel), if_pos (show ¬ lg_cmp (qwd (p_nm 83)) 4277799 = 0 by decide +kernel), if_pos (show ¬ lg_cmp (qwd (p_nm 83)) 73 = 0 by decide +kernel)]
    exact set1 7 rfl rfl
  · rw [if_neg (show ¬ ¬ lg_cmp (qwd (p_nm 84)) 16710 = 0 by decide +kernel)]
    exact set1 3 rfl rfl
  · rw [if_pos (show ¬ lg_cmp (qwd (p_nm 85)) 16710 = 0 by decide +kernel), if_neg (show ¬ ¬ lg_cmp (qwd (p_nm 85)) 4277799 = 0 by decide +kernel)]
    exact set1 4 rfl rfl
