set_option maxRecDepth 100000
set_option maxHeartbeats 4000000
/-! The plain law: whether an operand is in ( ) as a whole; the model's tokens, asked. -/
theorem qT_pl {B : Nat → Nat} {n p : Nat} (hS : qS B n) (h : (qT B n p).1 ≠ 0) : qT B n (qT B n p).2.1 = qT B n p ∧ (qT B n p).2.1 = qnb B n p := by
  have e2 : ∀ q, (qTq B n q).1 ≠ 0 → (qTq B n q).2.1 = q := by
    intro q hq
    have tn : ∀ r s, (qTn B n r q s).2.1 = q := by intro r s; unfold qTn; split <;> rfl
    unfold qTq at hq ⊢
    split
    · rename_i c; exact absurd (by rw [if_pos c]) hq
    rename_i c1; rw [if_neg c1] at hq
    split
    · rename_i c; exact absurd (by rw [if_pos c]) hq
    split
    · split <;> rfl
    split
    · exact tn _ _
    split
    · exact tn _ _
    split
    · exact tn _ _
    split
    · split <;> rfl
    split
    · split <;> rfl
    split
    · rfl
    split <;> rfl
  have e : (qT B n p).2.1 = qnb B n p := e2 _ h
  refine ⟨?_, e⟩
  rw [e]
  unfold qT
  have nb : qbl (B (qnb B n p)) = false := qrun_out (P := fun i => qbl (B i)) (fun i hi => by show qbl (B i) = false; rw [hS.2.2 i hi]; rfl)
  rw [show qrun (fun i => qbl (B i)) n (qnb B n p) = qnb B n p from qrun_e (P := fun i => qbl (B i)) nb]
theorem x_wh12 {B : Nat → Nat} {n : Nat} (hS : qS B n) {N : Nat} (hN : 7000 ≤ N) (x : Int32) : ∀ (d f p o m : Nat) (σ : fv_S), n - p = d → p ≤ n → (1 ≤ o ∨ (qT B n p).1 = 40) → o + d ≤ 6001 → d + 2 ≤ m → d + 1 ≤ f → qX B n σ → xAt B n p σ → ∃ σ', zX4_isWhole_12 N m x 0 (Int32.ofNat o) 1 σ = zX4_isWhole_125 N x (q01 (qWh B n f o p)) σ' ∧ qGx σ σ' := by
  have hn := hS.1
  intro d
  induction d using Nat.strongRecOn with
  | _ d ih =>
    intro f p o m σ e hp ho hod hm hf h a
    obtain ⟨m, rfl⟩ : ∃ j, m = j + 1 := ⟨m - 1, by omega⟩
    obtain ⟨m, rfl⟩ : ∃ j, m = j + 1 := ⟨m - 1, by omega⟩
    obtain ⟨f, rfl⟩ : ∃ j, f = j + 1 := ⟨f - 1, by omega⟩
    have hb := qT_b hS p hp
    obtain ⟨σ1, x1, f1, k1⟩ := x_look hS hN h a
    have h1 := qX_f h f1
    have a1 : xAt B n p σ1 := xAt_of hp k1
    obtain ⟨σ2, x2, f2, k2⟩ := x_end hS hN h1 a1
    have h2 := qX_f h1 f2
    have ec : ∀ c, c ≠ 0 → c ≠ 10 → c < 256 → (qxk n (qT B n p) = Int32.ofNat c ↔ (qT B n p).1 = c) := fun c h0 h10 hc => qxk_ne hb c h0 h10 hc
    -- what is left when the loop ends with open brackets
    have stop : ∀ (j : Nat) (s : fv_S), 1 ≤ j → j ≤ 6100 → zX4_isWhole_12 N (m + 1) x 0 (Int32.ofNat j) 0 s = zX4_isWhole_125 N x 0 s := by
      intro j s hj hj2
      show zX4_isWhole_12_b _ _ _ _ _ _ _ = _
      unfold zX4_isWhole_12_b
      rw [if_pos rfl, if_pos (show ¬ Int32.ofNat j = 0 from fun e => by have := (p_eqN j 0 (by omega) (by omega)).1 e; omega)]
    -- the middle
    have mid : ∀ (j : Nat) (s0 s1 : Int32), s0 + s1 = Int32.ofNat j → 1 ≤ j → j ≤ 6100 → ((qT B n p).1 = 0 ∨ (qT B n p).1 = 6 → ∃ σ', zX4_isWhole_47 N (zX4_isWhole_12 N (m + 1)) x 0 (qxk n (qT B n p)) s0 s1 σ1 = zX4_isWhole_125 N x 0 σ' ∧ qGx σ σ') ∧ (¬ ((qT B n p).1 = 0 ∨ (qT B n p).1 = 6) → ∃ σ3, zX4_isWhole_47 N (zX4_isWhole_12 N (m + 1)) x 0 (qxk n (qT B n p)) s0 s1 σ1 = zX4_isWhole_12 N (m + 1) x 0 (Int32.ofNat j) 1 σ3 ∧ qGx σ σ3 ∧ xAt B n (qT B n p).2.2.1 σ3) := by
      intro j s0 s1 es hj hj2
      unfold zX4_isWhole_47 zX4_isWhole_71 zX4_isWhole_72
      rw [es, if_neg (show ¬ Int32.ofNat j ≤ 0 from fun e => by have := (p_leN j 0 (by omega) (by omega)).1 e; omega), x2, fv_bi_ri]
      constructor
      · rintro (c | c)
        · rw [c, if_pos (show ¬ q01 ((0 : Nat) == 0) = 0 by decide), if_pos rfl, stop j σ2 hj hj2]
          exact ⟨σ2, rfl, qGx_t f1 f2⟩
        · rw [show ((qT B n p).1 == 0) = false by rw [c]; rfl, if_neg (show ¬ ¬ q01 false = 0 by decide), if_pos (show qxk n (qT B n p) = 6 from (ec 6 (by omega) (by omega) (by omega)).2 c), if_pos rfl, stop j σ2 hj hj2]
          exact ⟨σ2, rfl, qGx_t f1 f2⟩
      · intro c
        obtain ⟨σ3, x3, f3, k3, _⟩ := x_pass (B := B) hb k2 (fun e => c (Or.inl e)) (fun e => c (Or.inr e))
        rw [show ((qT B n p).1 == 0) = false by simp; exact fun e => c (Or.inl e), if_neg (show ¬ ¬ q01 false = 0 by decide), if_neg (show ¬ qxk n (qT B n p) = 6 from fun e => c (Or.inr ((ec 6 (by omega) (by omega) (by omega)).1 e))), if_neg (show ¬ (1 : Int32) = 0 by decide), x3, fv_bv_rv]
        exact ⟨σ3, rfl, qGx_t (qGx_t f1 f2) f3, k3⟩
    have again : ∀ (j : Nat) (σ3 : fv_S), ¬ ((qT B n p).1 = 0 ∨ (qT B n p).1 = 6) → 1 ≤ j → j ≤ o + 1 → qGx σ σ3 → xAt B n (qT B n p).2.2.1 σ3 → ∃ σ', zX4_isWhole_12 N (m + 1) x 0 (Int32.ofNat j) 1 σ3 = zX4_isWhole_125 N x (q01 (qWh B n f j (qT B n p).2.2.1)) σ' ∧ qGx σ σ' := by
      intro j σ3 c hj hj2 g3 a3
      have := hb.2.2.2.1 (fun e => c (Or.inl e)) (fun e => c (Or.inr e))
      have hb1 := hb.1
      have hb3 := hb.2.2.1
      obtain ⟨σ', y, g⟩ := ih (n - (qT B n p).2.2.1) (by omega) f (qT B n p).2.2.1 j (m + 1) σ3 rfl hb3 (Or.inl hj) (by omega) (by omega) (by omega) (qX_f h g3) a3
      exact ⟨σ', y, qGx_t g3 g⟩
    have head : zX4_isWhole_12 N (m + 1 + 1) x 0 (Int32.ofNat o) 1 σ = if ¬ qxk n (qT B n p) = 40 then (if ¬ qxk n (qT B n p) = 41 then zX4_isWhole_47 N (zX4_isWhole_12 N (m + 1)) x 0 (qxk n (qT B n p)) (Int32.ofNat o) 0 σ1 else zX4_isWhole_47 N (zX4_isWhole_12 N (m + 1)) x 0 (qxk n (qT B n p)) (Int32.ofNat o) (-1) σ1) else zX4_isWhole_47 N (zX4_isWhole_12 N (m + 1)) x 0 (qxk n (qT B n p)) (Int32.ofNat o) 1 σ1 := by
      show zX4_isWhole_12_b _ _ _ _ _ _ _ = _
      unfold zX4_isWhole_12_b
      rw [if_neg (show ¬ (1 : Int32) = 0 by decide), x1, fv_bi_ri]
    rw [head]
    show ∃ σ', _ = zX4_isWhole_125 N x (q01 (if (qT B n p).1 = 0 ∨ (qT B n p).1 = 6 then false else if (qT B n p).1 = 41 ∧ o = 1 then ((qT B n (qT B n p).2.2.1).1 == 0 || (qT B n (qT B n p).2.2.1).1 == 44) else qWh B n f (if (qT B n p).1 = 40 then o + 1 else if (qT B n p).1 = 41 then o - 1 else o) (qT B n p).2.2.1)) σ' ∧ _
    by_cases c40 : (qT B n p).1 = 40
    · rw [if_neg (show ¬ ¬ qxk n (qT B n p) = 40 from not_not_intro ((ec 40 (by omega) (by omega) (by omega)).2 c40)), if_neg (show ¬ ((qT B n p).1 = 0 ∨ (qT B n p).1 = 6) by omega), if_neg (show ¬ ((qT B n p).1 = 41 ∧ o = 1) by omega), if_pos c40]
      obtain ⟨σ3, y, g3, a3⟩ := (mid (o + 1) (Int32.ofNat o) 1 (p_sucN o) (by omega) (by omega)).2 (by omega)
      rw [y]
      exact again (o + 1) σ3 (by omega) (by omega) (by omega) g3 a3
    have ho1 : 1 ≤ o := by omega
    rw [if_pos (show ¬ qxk n (qT B n p) = 40 from fun e => c40 ((ec 40 (by omega) (by omega) (by omega)).1 e))]
    by_cases c41 : (qT B n p).1 = 41
    · rw [if_neg (show ¬ ¬ qxk n (qT B n p) = 41 from not_not_intro ((ec 41 (by omega) (by omega) (by omega)).2 c41)), if_neg (show ¬ ((qT B n p).1 = 0 ∨ (qT B n p).1 = 6) by omega)]
      have es : Int32.ofNat o + -1 = Int32.ofNat (o - 1) := by
        obtain ⟨j, rfl⟩ : ∃ j, o = j + 1 := ⟨o - 1, by omega⟩
        rw [← p_sucN, Int32.add_assoc, show (1 : Int32) + -1 = 0 by decide, Int32.add_zero]; rfl
      by_cases c1 : o = 1
      · rw [if_pos ⟨c41, c1⟩]
        subst c1
        unfold zX4_isWhole_47 zX4_isWhole_71 zX4_isWhole_72
        rw [es, if_pos (show Int32.ofNat (1 - 1) ≤ 0 by decide), if_pos rfl]
        show ∃ σ', zX4_isWhole_12_b _ _ _ _ _ _ _ = _ ∧ _
        unfold zX4_isWhole_12_b
        obtain ⟨σ3, x3, f3, k3, _⟩ := x_pass (B := B) hb k1 (by omega) (by omega)
        have h3 := qX_f h1 f3
        obtain ⟨σ4, x4, f4, k4⟩ := x_end hS hN h3 k3
        have hb3 := qT_b hS (qT B n p).2.2.1 hb.2.2.1
        rw [if_pos rfl, if_neg (show ¬ ¬ Int32.ofNat (1 - 1) = 0 by decide), k1.2.1, if_neg (show ¬ ¬ qxk n (qT B n p) = 41 from not_not_intro ((ec 41 (by omega) (by omega) (by omega)).2 c41)), x3, fv_bv_rv, x4, fv_bi_ri, k4.2.1]
        refine ⟨σ4, ?_, qGx_t (qGx_t f1 f3) f4⟩
        unfold zX4_isWhole_119 zX4_isWhole_124
        by_cases c0 : (qT B n (qT B n p).2.2.1).1 = 0
        · rw [c0, if_pos (show ¬ q01 ((0 : Nat) == 0) = 0 by decide)]; rfl
        · rw [show ((qT B n (qT B n p).2.2.1).1 == 0) = false by simp [c0], if_neg (show ¬ ¬ q01 false = 0 by decide)]
          by_cases c44 : (qT B n (qT B n p).2.2.1).1 = 44
          · rw [if_neg (show ¬ ¬ qxk n (qT B n (qT B n p).2.2.1) = 44 from not_not_intro ((qxk_ne hb3 44 (by omega) (by omega) (by omega)).2 c44)), c44]; rfl
          · rw [if_pos (show ¬ qxk n (qT B n (qT B n p).2.2.1) = 44 from fun e => c44 ((qxk_ne hb3 44 (by omega) (by omega) (by omega)).1 e)), show ((qT B n (qT B n p).2.2.1).1 == 44) = false by simp [c44]]; rfl
      · rw [if_neg (show ¬ ((qT B n p).1 = 41 ∧ o = 1) by omega), if_neg c40, if_pos c41]
        obtain ⟨σ3, y, g3, a3⟩ := (mid (o - 1) (Int32.ofNat o) (-1) es (by omega) (by omega)).2 (by omega)
        rw [y]
        exact again (o - 1) σ3 (by omega) (by omega) (by omega) g3 a3
    rw [if_pos (show ¬ qxk n (qT B n p) = 41 from fun e => c41 ((ec 41 (by omega) (by omega) (by omega)).1 e))]
    have mm := mid o (Int32.ofNat o) 0 (Int32.add_zero _) ho1 (by omega)
    by_cases c06 : (qT B n p).1 = 0 ∨ (qT B n p).1 = 6
    · rw [if_pos c06]
      exact mm.1 c06
    · rw [if_neg c06, if_neg (show ¬ ((qT B n p).1 = 41 ∧ o = 1) from fun e => c41 e.1), if_neg c40, if_neg c41]
      obtain ⟨σ3, y, g3, a3⟩ := mm.2 c06
      rw [y]
      exact again o σ3 c06 ho1 (by omega) g3 a3
/-- whether the ( at p is closed where the operand ends -/
def qWo (B : Nat → Nat) (n p : Nat) : Bool := qWh B n 6001 0 p
theorem x_who {B : Nat → Nat} {n p : Nat} (hS : qS B n) {N : Nat} (hN : 7000 ≤ N) {σ : fv_S} (h : qX B n σ) (hp : p ≤ n) (k : qXt n (qT B n p) σ) (c : (qT B n p).1 = 40) : ∃ σ', zX4_isWhole N σ = fv_ri (q01 (qWo B n p)) σ' ∧ qGx σ σ' ∧ qXt n (qT B n p) σ' := by
  have hn := hS.1
  have hb := qT_b hS p hp
  unfold zX4_isWhole
  rw [k.2.2.1]
  obtain ⟨σ1, x1, f1⟩ := x_wh12 hS hN (Int32.ofNat (qT B n p).2.1) (n - p) 6001 p 0 N σ rfl hp (Or.inr c) (by omega) (by omega) (by omega) h (xAt_of hp k)
  rw [show (0 : Int32) = Int32.ofNat 0 from rfl] at x1 ⊢
  rw [x1]
  unfold zX4_isWhole_125
  obtain ⟨σ2, x2, f2, a2⟩ := x_back (B := B) (n := n) (p := (qT B n p).2.1) hb.2.1 σ1
  have g2 := qGx_t f1 f2
  obtain ⟨σ3, x3, f3, k3⟩ := x_look hS hN (qX_f h g2) a2
  rw [x2, fv_bv_rv, x3, fv_bi_ri]
  rw [(qT_pl hS (by omega)).1] at k3
  refine ⟨σ3, ?_, qGx_t g2 f3, k3⟩
  unfold qWo
  cases qWh B n 6001 0 p with
  | true => exact if_pos (Or.inr rfl)
  | false => exact if_pos (Or.inl rfl)
