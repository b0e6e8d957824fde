set_option maxRecDepth 100000
set_option maxHeartbeats 4000000
/-! The plain law: a line, what it comes to; the class reads a statement. -/
theorem qT_12 {B : Nat → Nat} {n p : Nat} (h : (qT B n p).1 = 1) : (qT B n p).2.2.1 - (qT B n p).2.1 ≤ 12 := by
  unfold qT at h ⊢
  generalize qrun (fun i => qbl (B i)) n p = q at h ⊢
  obtain ⟨h1, h2⟩ := (qTq_1 B n q).1 h
  have n10 : ¬ B q = 10 := fun e => by rw [e] at h1; exact absurd h1 (by decide)
  have n59 : ¬ B q = 59 := fun e => by rw [e] at h1; exact absurd h1 (by decide)
  unfold qTq
  rw [if_neg n10, if_neg n59, if_pos h1, if_neg (by omega)]
  show (if qnm B q (qrun (fun i => qnp (B i)) n q - q) = [65, 70] ∧ B (qrun (fun i => qnp (B i)) n q) = 39 then qrun (fun i => qnp (B i)) n q + 1 else qrun (fun i => qnp (B i)) n q) - q ≤ 12
  split
  · rename_i hc
    have l : (qnm B q (qrun (fun i => qnp (B i)) n q - q)).length = 2 := by rw [hc.1]; rfl
    have ln : ∀ (k q : Nat), (qnm B q k).length = k := by
      intro k
      induction k with
      | zero => intro q; rfl
      | succ k ih => intro q; show (qnm B (q + 1) k).length + 1 = _; rw [ih]
    rw [ln] at l
    omega
  · exact h2
abbrev qSt : Type := Option (Nat × Nat) × qOu × List (List Nat × Int32) × Nat × List (Bool × Bool) × qMem
/-- a statement whose word is the w-th reserved name and stands at q; p is behind it -/
noncomputable def qSw (B : Nat → Nat) (n : Nat) (sec : Bool) (w q : Nat) (L : List (List Nat × Int32)) (org h : Nat) (I : List (Bool × Bool)) (M : qMem) (p : Nat) : qSt :=
  if w < 67 then ((qIn B n sec w q L org h p).1, (qIn B n sec w q L org h p).2.2, L, h + (qIn B n sec w q L org h p).2.1.length, I, qlm (qIn B n sec w q L org h p).2.1 M h)
  else if w = 67 then (qkg ((qEX B n p).1 (qen L org)).1 ((qEX B n p).1 (qen L org)).2 (qEX B n p).2 0 65535 (qT B n p).2.1, (qEX B n p).2, L, min 65536 ((qEX B n p).1 (qen L org)).2.toNatClampNeg, I, M)
  else if w = 69 ∨ w = 70 then ((qDa B n sec (decide (w = 70)) L org 6002 p).1, (qDa B n sec (decide (w = 70)) L org 6002 p).2.2, L, h + (qDa B n sec (decide (w = 70)) L org 6002 p).2.1.length, I, qlm (qDa B n sec (decide (w = 70)) L org 6002 p).2.1 M h)
  else if w = 71 then ((qSp B n sec L org p).1, (qSp B n sec L org p).2.2, L, h + (qSp B n sec L org p).2.1.length, I, qlm (qSp B n sec L org p).2.1 M h)
  else if w = 72 then (qIfG B n p L org I, qIfO B n p I q, L, h, (decide (((qEX B n p).1 (qen L org)).2 ≠ 0), false) :: I, M)
  else if w = 73 ∨ w = 74 then (none, qTuO (decide (w = 73)) I q p, L, h, qTuI (decide (w = 73)) I q, M)
  else (none, .inl (6, q), L, h, I, M)
/-- a statement at p -/
noncomputable def qSg (B : Nat → Nat) (n : Nat) (sec : Bool) (L : List (List Nat × Int32)) (org h : Nat) (I : List (Bool × Bool)) (M : qMem) (p : Nat) : qSt :=
  if (qT B n p).1 = 0 then (none, .inr p, L, h, I, M)
  else if (qT B n p).1 = 1 then (if qiq B n (qT B n p).2.2.1 = true then (qEqG B n (qT B n p).2.2.1 sec L org (qna B (qT B n p)), qEqO B n (qT B n p).2.2.1 sec L (qna B (qT B n p)) (qT B n p).2.1, qEqL B n (qT B n p).2.2.1 sec L org (qna B (qT B n p)), h, I, M) else qSw B n sec (qri (qna B (qT B n p))) (qT B n p).2.1 L org h I M (qT B n p).2.2.1)
  else (none, .inl (qwr (qT B n p), (qT B n p).2.1), L, h, I, M)
/-- the second pass reads an instruction as the first found it -/
def qSk (B : Nat → Nat) (n w p : Nat) : Prop := w < 67 → ∃ f p', (qOm B n p).2 = .inr p' ∧ (qT B n p').1 = 0 ∧ qFo B n w p = some f
theorem xSo_v {B : Nat → Nat} {n : Nat} {G : Option (Nat × Nat)} {o : qOu} {post : fv_S → Prop} {σ : fv_S} {out : Option fv_O} (h : xSo B n G o post σ out) : xSo B n G o post σ (fv_bv out (fun s => fv_rv s) fv_th) := by
  cases o with
  | inr p' => obtain ⟨σ', h1, h2⟩ := h; rw [h1, fv_bv_rv]; exact ⟨σ', rfl, h2⟩
  | inl g => obtain ⟨σ', h1, h2⟩ := h; rw [h1, fv_bv_th]; exact ⟨σ', rfl, h2⟩
theorem xSo_p {B : Nat → Nat} {n : Nat} {G : Option (Nat × Nat)} {o : qOu} {post post' : fv_S → Prop} {σ : fv_S} {out : Option fv_O} (h : xSo B n G o post σ out) (g : ∀ s p', o = .inr p' → G = none → post s → post' s) : xSo B n G o post' σ out := by
  cases o with
  | inr p' => obtain ⟨σ', h1, h2, h3, h4, h5, h6, h7, h8, h9, h10⟩ := h; exact ⟨σ', h1, h2, h3, h4, h5, h6, h7, h8, fun hg => g σ' p' rfl hg (h9 hg), h10⟩
  | inl f => exact h
noncomputable def x_disp (N : Nat) (r9 : Int32) (σ11 : fv_S) : Option fv_O :=
                if r9 < 0 then
                  zX3_statement_90 N σ11
                else
                  if (75 : Int32) ≤ r9 then
                    zX3_statement_90 N σ11
                  else
                    if ¬ r9 = (68 : Int32) then
                      if (67 : Int32) ≤ r9 then
                        if ¬ r9 = (67 : Int32) then
                          if r9 = (69 : Int32) then
                            zX3_statement_155 N r9 σ11
                          else
                            if ¬ r9 = (70 : Int32) then
                              if ¬ r9 = (71 : Int32) then
                                fv_bv (zX3_conditional N r9 σ11) (fun σ13 =>
                                  fv_rv σ13) fv_th
                              else
                                fv_bv (zX3_space N σ11) (fun σ14 =>
                                  fv_rv σ14) fv_th
                            else
                              zX3_statement_155 N r9 σ11
                        else
                          fv_bi (zX3_knownExp N 0 65535 σ11) (fun r16 σ15 =>
                            fv_rv (fv_si σ15 1543 (r16 &&& (65535 : Int32)))) fv_th
                      else
                        fv_bv (zX3_instruction N r9 σ11) (fun σ17 =>
                          fv_rv σ17) fv_th
                    else
                      zX3_statement_90 N σ11
/-- a statement's word, in the class -/
theorem x_word {B : Nat → Nat} {n N p w q : Nat} (hS : qS B n) (hN : 70000 ≤ N) (hw : w ≤ 99) {sec : Bool} {L : List (List Nat × Int32)} {h : Nat} {I : List (Bool × Bool)} {org : Nat} {M : qMem} {σ : fv_S} (z : xZ B n sec L h I org σ) (ha : xAt B n p σ) (hR : xR none σ) (hF : pFm σ) (hI : I.length ≤ 8) (hd : qid I = true) (hq : fv_gi σ 1548 = Int32.ofNat q) (hqp : q < p) (hh6 : h ≤ 65536) (hM : sec = true → xMe M σ) (hst : sec = true → qSk B n w p) (hh : sec = true → (qSw B n sec w q L org h I M p).2.2.2.1 ≤ 65536) :
    xSo B n (qSw B n sec w q L org h I M p).1 (qSw B n sec w q L org h I M p).2.1 (fun σ' => xZ B n sec (qSw B n sec w q L org h I M p).2.2.1 (qSw B n sec w q L org h I M p).2.2.2.1 (qSw B n sec w q L org h I M p).2.2.2.2.1 org σ' ∧ (sec = true → xMe (qSw B n sec w q L org h I M p).2.2.2.2.2 σ')) σ (x_disp N (qxi w 99) σ) := by
  have hn := hS.1
  have hp := ha.1
  have h90 : xSo B n none (.inl (6, q)) (fun σ' => xZ B n sec L h I org σ' ∧ (sec = true → xMe M σ')) σ (zX3_statement_90 N σ) := by
    unfold zX3_statement_90
    rw [hq]
    exact xSo_th (6, q) rfl (xFo_r σ) ⟨by show 1 ≤ 6; omega, by show 6 ≤ 9; omega, by show q ≤ 6000; omega⟩ hR
  unfold x_disp
  by_cases w99 : w = 99
  · subst w99
    rw [if_pos (show qxi 99 99 < 0 by decide)]
    exact h90
  have ex : qxi w 99 = Int32.ofNat w := by unfold qxi; rw [if_pos (by omega)]
  have e : ∀ d, d < 100 → (Int32.ofNat w = Int32.ofNat d ↔ w = d) := fun d hd => p_eqN w d (by omega) (by omega)
  have l75 : (75 : Int32) ≤ Int32.ofNat w ↔ 75 ≤ w := p_leN 75 w (by omega) (by omega)
  have l67 : (67 : Int32) ≤ Int32.ofNat w ↔ 67 ≤ w := p_leN 67 w (by omega) (by omega)
  rw [ex, if_neg (show ¬ Int32.ofNat w < 0 from fun e => absurd ((p_ltN w 0 (by omega) (by omega)).1 e) (by omega))]
  by_cases c75 : 75 ≤ w
  · rw [if_pos (l75.2 c75)]
    unfold qSw
    rw [if_neg (by omega), if_neg (by omega), if_neg (by omega), if_neg (by omega), if_neg (by omega), if_neg (by omega)]
    exact h90
  rw [if_neg (fun x => c75 (l75.1 x))]
  by_cases c68 : w = 68
  · rw [if_neg (show ¬ ¬ Int32.ofNat w = 68 from not_not_intro ((e 68 (by omega)).2 c68))]
    unfold qSw
    rw [if_neg (by omega), if_neg (by omega), if_neg (by omega), if_neg (by omega), if_neg (by omega), if_neg (by omega)]
    exact h90
  rw [if_pos (show ¬ Int32.ofNat w = 68 from fun x => c68 ((e 68 (by omega)).1 x))]
  by_cases c67 : w < 67
  · rw [if_neg (fun x => absurd (l67.1 x) (by omega))]
    have eq : qSw B n sec w q L org h I M p = ((qIn B n sec w q L org h p).1, (qIn B n sec w q L org h p).2.2, L, h + (qIn B n sec w q L org h p).2.1.length, I, qlm (qIn B n sec w q L org h p).2.1 M h) := if_pos c67
    rw [eq] at hh ⊢
    exact xSo_v (x_ins hS (by omega) c67 ⟨z, ha, hR, fun f hf => absurd hf (by simp)⟩ hF hq hqp hh6 hM (fun hs => hst hs c67) hh)
  rw [if_pos (l67.2 (by omega))]
  by_cases d67 : w = 67
  · rw [if_neg (show ¬ ¬ Int32.ofNat w = 67 from not_not_intro ((e 67 (by omega)).2 d67))]
    unfold qSw
    rw [if_neg c67, if_pos d67]
    refine xSo_p (x_org (N := N) hS (by omega) z ha hR) (fun s p' ho hG hs => ⟨?_, fun h1 => xMe_s (hM h1) hs.2⟩)
    show xZ B n sec L (min 65536 ((qEX B n p).1 (qen L org)).2.toNatClampNeg) I org s
    have hG : qkg ((qEX B n p).1 (qen L org)).1 ((qEX B n p).1 (qen L org)).2 (qEX B n p).2 0 65535 (qT B n p).2.1 = none := hG
    have ho : (qEX B n p).2 = .inr p' := ho
    obtain ⟨_, hi⟩ := qS1_n ho hG
    obtain ⟨m, m1, m2, m3, m4⟩ := qin_16 hi
    rw [show min 65536 ((qEX B n p).1 (qen L org)).2.toNatClampNeg = ((qEX B n p).1 (qen L org)).2.toNatClampNeg by rw [m4]; omega]
    exact hs.1
  rw [if_pos (show ¬ Int32.ofNat w = 67 from fun x => d67 ((e 67 (by omega)).1 x))]
  by_cases d69 : w = 69 ∨ w = 70
  · have eq : qSw B n sec w q L org h I M p = ((qDa B n sec (decide (w = 70)) L org 6002 p).1, (qDa B n sec (decide (w = 70)) L org 6002 p).2.2, L, h + (qDa B n sec (decide (w = 70)) L org 6002 p).2.1.length, I, qlm (qDa B n sec (decide (w = 70)) L org 6002 p).2.1 M h) := by
      unfold qSw; rw [if_neg c67, if_neg d67, if_pos d69]
    rw [eq] at hh ⊢
    have st : zX3_statement_155 N (Int32.ofNat w) σ = zX3_statement_167 N (q01 (decide (w = 70))) σ := by
      unfold zX3_statement_155
      by_cases d70 : w = 70
      · rw [if_neg (show ¬ ¬ Int32.ofNat w = 70 from not_not_intro ((e 70 (by omega)).2 d70)), decide_eq_true d70]; rfl
      · rw [if_pos (show ¬ Int32.ofNat w = 70 from fun x => d70 ((e 70 (by omega)).1 x)), decide_eq_false d70]; rfl
    have R := x_data (N := N) hS (by omega) (decide (w = 70)) z ha hR hM hh
    rcases d69 with d | d
    · rw [if_pos (show Int32.ofNat w = 69 from (e 69 (by omega)).2 d), st]; exact R
    · rw [if_neg (show ¬ Int32.ofNat w = 69 from fun x => absurd ((e 69 (by omega)).1 x) (by omega)), if_neg (show ¬ ¬ Int32.ofNat w = 70 from not_not_intro ((e 70 (by omega)).2 d)), st]; exact R
  rw [if_neg (show ¬ Int32.ofNat w = 69 from fun x => d69 (Or.inl ((e 69 (by omega)).1 x))), if_pos (show ¬ Int32.ofNat w = 70 from fun x => d69 (Or.inr ((e 70 (by omega)).1 x)))]
  by_cases d71 : w = 71
  · have eq : qSw B n sec w q L org h I M p = ((qSp B n sec L org p).1, (qSp B n sec L org p).2.2, L, h + (qSp B n sec L org p).2.1.length, I, qlm (qSp B n sec L org p).2.1 M h) := by
      unfold qSw; rw [if_neg c67, if_neg d67, if_neg d69, if_pos d71]
    rw [eq] at hh ⊢
    rw [if_neg (show ¬ ¬ Int32.ofNat w = 71 from not_not_intro ((e 71 (by omega)).2 d71))]
    exact x_space hS hN z ha hR hM hh6 hh
  rw [if_pos (show ¬ Int32.ofNat w = 71 from fun x => d71 ((e 71 (by omega)).1 x))]
  by_cases d72 : w = 72
  · have eq : qSw B n sec w q L org h I M p = (qIfG B n p L org I, qIfO B n p I q, L, h, (decide (((qEX B n p).1 (qen L org)).2 ≠ 0), false) :: I, M) := by
      unfold qSw; rw [if_neg c67, if_neg d67, if_neg d69, if_neg d71, if_pos d72]
    rw [eq]
    have R := x_if (N := N) hS (by omega) z ha hR hI hd hh6 hq (by omega)
    rw [show Int32.ofNat w = 72 from (e 72 (by omega)).2 d72]
    exact xSo_p R (fun s p' _ _ hs => ⟨hs.1, fun h1 => xMe_s (hM h1) hs.2⟩)
  · have d73 : w = 73 ∨ w = 74 := by omega
    have eq : qSw B n sec w q L org h I M p = (none, qTuO (decide (w = 73)) I q p, L, h, qTuI (decide (w = 73)) I q, M) := by
      unfold qSw; rw [if_neg c67, if_neg d67, if_neg d69, if_neg d71, if_neg d72, if_pos d73]
    rw [eq]
    have R := x_tu (N := N) hS z ha hR hI hq (by omega) (decide (w = 73))
    have ew : (if decide (w = 73) = true then (73 : Int32) else 74) = Int32.ofNat w := by
      rcases d73 with d | d
      · rw [decide_eq_true d, if_pos rfl, d]; rfl
      · rw [decide_eq_false (by omega), if_neg (by decide), d]; rfl
    rw [ew] at R
    exact xSo_p R (fun s p' _ _ hs => ⟨hs.1, fun h1 => xMe_s (hM h1) hs.2⟩)
