set_option maxRecDepth 100000
set_option maxHeartbeats 4000000
/-! The plain law: an instruction in the class: its octets are laid. -/
def xJ (B : Nat → Nat) (n : Nat) (sec : Bool) (L : List (List Nat × Int32)) (h : Nat) (I : List (Bool × Bool)) (org : Nat) (G : Option (Nat × Nat)) (M : qMem) (σ0 : fv_S) (l : List Nat) (σ : fv_S) : Prop := xZ B n sec L (h + l.length) I org σ ∧ xFy σ0 σ ∧ xR G σ ∧ (sec = true → G = none → xMe (qlm l M h) σ)
theorem xJ_lay {B : Nat → Nat} {n : Nat} {sec : Bool} {L : List (List Nat × Int32)} {h : Nat} {I : List (Bool × Bool)} {org : Nat} {G : Option (Nat × Nat)} {M : qMem} {σ0 σ : fv_S} {l : List Nat} (H : xJ B n sec L h I org G M σ0 l σ) (b : Int32) (hh : sec = true → h + (l ++ [qoc b]).length ≤ 65536) : ∃ σ', zX3_lay b σ = fv_rv σ' ∧ xJ B n sec L h I org G M σ0 (l ++ [qoc b]) σ' := by
  obtain ⟨h1, h2, h3, h4⟩ := H
  obtain ⟨σ', x1, x2, x3, x4⟩ := x_lay h1 h3 h4 (fun e => by have := hh e; rw [List.length_append] at this; have t : [qoc b].length = 1 := rfl; omega) b
  refine ⟨σ', x1, ?_, xFy_t h2 x3, xR_c h3 (x3.1 1563 (by omega) (by omega) (by omega) (by omega)) (x3.1 1564 (by omega) (by omega) (by omega) (by omega)), fun a c => ?_⟩
  · rw [List.length_append]; exact x2
  · rw [qlm_app]; exact x4 a c
/-- an operand's octets -/
def qol (k : Nat) (v nx : Int32) : List Nat := if k = 6 then [qoc (v - nx)] else if k = 4 ∨ k = 8 then [qoc v] else if k = 5 ∨ k = 7 then [qoc v, qoc (v >>> 8)] else []
theorem xJ_lo {B : Nat → Nat} {n : Nat} {sec : Bool} {L : List (List Nat × Int32)} {h : Nat} {I : List (Bool × Bool)} {org : Nat} {G : Option (Nat × Nat)} {M : qMem} {σ0 σ : fv_S} {l : List Nat} (H : xJ B n sec L h I org G M σ0 l σ) {o k : Nat} (ho : o < 2) (hk : k < 15) (nx v : Int32) (hv : fv_gw σ0 25 o = v) (hh : sec = true → h + (l ++ qol k v nx).length ≤ 65536) : ∃ σ', zX3_layOperand (Int32.ofNat o) (Int32.ofNat k) nx σ = fv_rv σ' ∧ xJ B n sec L h I org G M σ0 (l ++ qol k v nx) σ' := by
  obtain ⟨i1, i2⟩ := p_inN o 2 ho (by omega)
  have ga : ∀ s, xJ B n sec L h I org G M σ0 l s → fv_ga s 25 (Int32.ofNat o) = v := fun s hs => by show fv_gw s 25 (Int32.ofNat o).toNatClampNeg = _; rw [i2, hs.2.1.2.2.1 25 (by omega)]; exact hv
  unfold zX3_layOperand
  rw [if_pos i1, ga σ H]
  have kk : (k = 0 ∨ k = 1 ∨ k = 2 ∨ k = 3 ∨ k = 9 ∨ k = 10 ∨ k = 11 ∨ k = 12 ∨ k = 13 ∨ k = 14) ∨ (k = 4 ∨ k = 8) ∨ (k = 5 ∨ k = 7) ∨ k = 6 := by omega
  have n6 : ∀ d, d < 100 → (Int32.ofNat k = Int32.ofNat d ↔ k = d) := fun d hd => p_eqN k d (by omega) (by omega)
  rcases kk with kk | kk | kk | kk
  · have e : qol k v nx = [] := by unfold qol; rw [if_neg (by omega), if_neg (by omega), if_neg (by omega)]
    rw [e, List.append_nil, if_pos (show ¬ Int32.ofNat k = 6 from fun x => absurd ((n6 6 (by omega)).1 x) (by omega))]
    unfold zX3_layOperand_22 zX3_layOperand_39
    rw [if_neg (show ¬ Int32.ofNat k = 4 from fun x => absurd ((n6 4 (by omega)).1 x) (by omega)), if_pos (show ¬ Int32.ofNat k = 8 from fun x => absurd ((n6 8 (by omega)).1 x) (by omega)), if_neg (show ¬ Int32.ofNat k = 5 from fun x => absurd ((n6 5 (by omega)).1 x) (by omega)), if_pos (show ¬ Int32.ofNat k = 7 from fun x => absurd ((n6 7 (by omega)).1 x) (by omega))]
    exact ⟨σ, rfl, H⟩
  · have e : qol k v nx = [qoc v] := by unfold qol; rw [if_neg (by omega), if_pos kk]
    rw [e] at hh ⊢
    rw [if_pos (show ¬ Int32.ofNat k = 6 from fun x => absurd ((n6 6 (by omega)).1 x) (by omega))]
    obtain ⟨σ', x1, x2⟩ := xJ_lay H v hh
    have e33 : zX3_layOperand_33 (Int32.ofNat k) v σ = fv_rv σ' := by
      unfold zX3_layOperand_33 zX3_layOperand_39
      rw [x1, fv_bv_rv, if_neg (show ¬ Int32.ofNat k = 5 from fun x => absurd ((n6 5 (by omega)).1 x) (by omega)), if_pos (show ¬ Int32.ofNat k = 7 from fun x => absurd ((n6 7 (by omega)).1 x) (by omega))]
    unfold zX3_layOperand_22
    rcases kk with k4 | k8
    · rw [if_pos (show Int32.ofNat k = 4 from (n6 4 (by omega)).2 k4), e33]; exact ⟨σ', rfl, x2⟩
    · rw [if_neg (show ¬ Int32.ofNat k = 4 from fun x => absurd ((n6 4 (by omega)).1 x) (by omega)), if_neg (show ¬ ¬ Int32.ofNat k = 8 from not_not_intro ((n6 8 (by omega)).2 k8)), e33]; exact ⟨σ', rfl, x2⟩
  · have e : qol k v nx = [qoc v, qoc (v >>> 8)] := by unfold qol; rw [if_neg (by omega), if_neg (by omega), if_pos kk]
    rw [e] at hh ⊢
    rw [if_pos (show ¬ Int32.ofNat k = 6 from fun x => absurd ((n6 6 (by omega)).1 x) (by omega))]
    have hh1 : sec = true → h + (l ++ [qoc v]).length ≤ 65536 := fun a => by have := hh a; rw [List.length_append] at this ⊢; have t1 : [qoc v, qoc (v >>> 8)].length = 2 := rfl; have t2 : [qoc v].length = 1 := rfl; omega
    obtain ⟨σ1, x1, x2⟩ := xJ_lay H v hh1
    have ea : l ++ [qoc v, qoc (v >>> 8)] = l ++ [qoc v] ++ [qoc (v >>> 8)] := by rw [List.append_assoc]; rfl
    rw [ea] at hh ⊢
    obtain ⟨σ2, y1, y2⟩ := xJ_lay x2 (v >>> 8) hh
    have e50 : zX3_layOperand_50 v σ = fv_rv σ2 := by
      unfold zX3_layOperand_50
      rw [x1, fv_bv_rv, y1, fv_bv_rv]
    unfold zX3_layOperand_22 zX3_layOperand_39
    rw [if_neg (show ¬ Int32.ofNat k = 4 from fun x => absurd ((n6 4 (by omega)).1 x) (by omega)), if_pos (show ¬ Int32.ofNat k = 8 from fun x => absurd ((n6 8 (by omega)).1 x) (by omega))]
    rcases kk with k4 | k8
    · rw [if_pos (show Int32.ofNat k = 5 from (n6 5 (by omega)).2 k4), e50]; exact ⟨σ2, rfl, y2⟩
    · rw [if_neg (show ¬ Int32.ofNat k = 5 from fun x => absurd ((n6 5 (by omega)).1 x) (by omega)), if_neg (show ¬ ¬ Int32.ofNat k = 7 from not_not_intro ((n6 7 (by omega)).2 k8)), e50]; exact ⟨σ2, rfl, y2⟩
  · have e : qol k v nx = [qoc (v - nx)] := by unfold qol; rw [if_pos kk]
    rw [e] at hh ⊢
    rw [if_neg (show ¬ ¬ Int32.ofNat k = 6 from not_not_intro ((n6 6 (by omega)).2 kk))]
    obtain ⟨σ', x1, x2⟩ := xJ_lay H (v - nx) hh
    rw [x1, fv_bv_rv]
    unfold zX3_layOperand_22 zX3_layOperand_39
    rw [if_neg (show ¬ Int32.ofNat k = 4 from fun x => absurd ((n6 4 (by omega)).1 x) (by omega)), if_pos (show ¬ Int32.ofNat k = 8 from fun x => absurd ((n6 8 (by omega)).1 x) (by omega)), if_neg (show ¬ Int32.ofNat k = 5 from fun x => absurd ((n6 5 (by omega)).1 x) (by omega)), if_pos (show ¬ Int32.ofNat k = 7 from fun x => absurd ((n6 7 (by omega)).1 x) (by omega))]
    exact ⟨σ', rfl, x2⟩
theorem x_hix {σ : fv_S} {f k0 k1 : Nat} (hf : f < 696) (ha : k0 < 15) (hb : k1 < 15) (a5 : fv_gw σ 5 f = Int32.ofNat k0) (a7 : fv_gw σ 7 f = Int32.ofNat k1) : zX2_hasIndex (Int32.ofNat f) σ = fv_ri (Int32.ofNat (if k0 = 10 ∨ k1 = 10 then 1 else 0)) σ := by
  obtain ⟨i1, i2⟩ := p_inN f 900 (by omega) (by omega)
  have g5 : fv_ga σ 5 (Int32.ofNat f) = Int32.ofNat k0 := by show fv_gw σ 5 (Int32.ofNat f).toNatClampNeg = _; rw [i2]; exact a5
  have g7 : fv_ga σ 7 (Int32.ofNat f) = Int32.ofNat k1 := by show fv_gw σ 7 (Int32.ofNat f).toNatClampNeg = _; rw [i2]; exact a7
  have e0 : Int32.ofNat k0 = 10 ↔ k0 = 10 := p_eqN k0 10 (by omega) (by omega)
  have e1 : Int32.ofNat k1 = 10 ↔ k1 = 10 := p_eqN k1 10 (by omega) (by omega)
  unfold zX2_hasIndex
  rw [if_pos i1, if_pos i1, g5, g7]
  by_cases c0 : k0 = 10
  · rw [if_pos (e0.2 c0), if_pos (Or.inl c0)]; rfl
  · rw [if_neg (fun x => c0 (e0.1 x))]
    by_cases c1 : k1 = 10
    · rw [if_neg (not_not_intro (e1.2 c1)), if_pos (Or.inr c1)]; rfl
    · rw [if_pos (show ¬ Int32.ofNat k1 = 10 from fun x => c1 (e1.1 x)), if_neg (fun x => x.elim c0 c1)]; rfl
/-- an instruction's octets -/
def qi2 (f : p_F) (v0 v1 nx : Int32) : List Nat := qol f.2.2.2.1 v0 nx ++ qol f.2.2.2.2.2.1 v1 nx
def qi1 (f : p_F) (iv v0 v1 nx : Int32) : List Nat := [f.2.1] ++ ((if f.1 < 5 ∧ (f.2.2.2.1 = 10 ∨ f.2.2.2.2.2.1 = 10) then [qoc iv] else []) ++ qi2 f v0 v1 nx)
def qi0 (f : p_F) (iv v0 v1 nx : Int32) : List Nat := (if f.1 = 1 ∨ 5 ≤ f.1 then [203] else []) ++ ((if 5 ≤ f.1 then [qoc iv] else []) ++ qi1 f iv v0 v1 nx)
def qIl (f : p_F) (iv v0 v1 nx : Int32) : List Nat := (if f.1 = 2 then [237] else []) ++ ((if f.1 = 3 ∨ f.1 = 5 then [221] else if f.1 = 4 ∨ f.1 = 6 then [253] else []) ++ qi0 f iv v0 v1 nx)
theorem qi_le {h a : Nat} {P : Prop} {l r : List Nat} (hh : P → h + (l ++ r).length ≤ a) (x : List Nat) (y : List Nat) (e : r = x ++ y) : (P → h + (l ++ x).length ≤ a) ∧ (P → h + (l ++ x ++ y).length ≤ a) ∧ l ++ r = l ++ x ++ y := by
  subst e
  refine ⟨fun p => ?_, fun p => ?_, (List.append_assoc _ _ _).symm⟩
  · have := hh p; simp only [List.length_append] at this ⊢; omega
  · have := hh p; simp only [List.length_append] at this ⊢; omega
/-- what laying an instruction reads -/
def xDt (f : p_F) (r : Nat) (iv v0 v1 : Int32) (σ : fv_S) : Prop := fv_gw σ 9 r = Int32.ofNat f.1 ∧ fv_gw σ 10 r = Int32.ofNat f.2.1 ∧ fv_gw σ 5 r = Int32.ofNat f.2.2.2.1 ∧ fv_gw σ 7 r = Int32.ofNat f.2.2.2.2.2.1 ∧ f.1 ≤ 6 ∧ f.2.1 ≤ 255 ∧ f.2.2.2.1 < 15 ∧ f.2.2.2.2.2.1 < 15 ∧ fv_gw σ 25 0 = v0 ∧ fv_gw σ 25 1 = v1 ∧ (f.2.2.2.1 = 10 ∨ f.2.2.2.2.2.1 = 10 → iv = if f.2.2.2.1 = 10 then (if fv_gw σ 23 0 = 0 then 0 else v0) else (if fv_gw σ 23 1 = 0 then 0 else v1))
theorem xDt_c {f : p_F} {r : Nat} {iv v0 v1 : Int32} {σ σ' : fv_S} (h : xDt f r iv v0 v1 σ) (g : ∀ a, a < 20 ∨ 20 < a → fv_gw σ' a = fv_gw σ a) : xDt f r iv v0 v1 σ' := by
  unfold xDt
  rw [g 9 (by omega), g 10 (by omega), g 5 (by omega), g 7 (by omega), g 25 (by omega), g 23 (by omega)]; exact h
theorem xJ_225 {B : Nat → Nat} {n : Nat} {sec : Bool} {L : List (List Nat × Int32)} {h : Nat} {I : List (Bool × Bool)} {org : Nat} {G : Option (Nat × Nat)} {M : qMem} {σ0 σ : fv_S} {l : List Nat} (H : xJ B n sec L h I org G M σ0 l σ) {iv v0 v1 : Int32} {r : Nat} {f : p_F} (hr : r < 696) (D : xDt f r iv v0 v1 σ0) (N : Nat) (nx : Int32) (hh : sec = true → h + (l ++ qi2 f v0 v1 nx).length ≤ 65536) : ∃ σ', zX3_instruction_225 N (Int32.ofNat r) nx σ = fv_rv σ' ∧ xJ B n sec L h I org G M σ0 (l ++ qi2 f v0 v1 nx) σ' := by
  obtain ⟨d1, d2, d3, d4, d5, d6, d7, d8, d9, d10, d11⟩ := D
  obtain ⟨i1, i2⟩ := p_inN r 900 (by omega) (by omega)
  obtain ⟨e1, e2, e3⟩ := qi_le hh (qol f.2.2.2.1 v0 nx) (qol f.2.2.2.2.2.1 v1 nx) rfl
  unfold zX3_instruction_225
  have g5 : fv_ga σ 5 (Int32.ofNat r) = Int32.ofNat f.2.2.2.1 := by show fv_gw σ 5 (Int32.ofNat r).toNatClampNeg = _; rw [i2, H.2.1.2.2.1 5 (by omega)]; exact d3
  obtain ⟨σ1, x1, x2⟩ := xJ_lo H (o := 0) (by omega) d7 nx v0 d9 e1
  rw [if_pos i1, g5, show zX3_layOperand 0 (Int32.ofNat f.2.2.2.1) nx σ = fv_rv σ1 from x1, fv_bv_rv]
  have g7 : fv_ga σ1 7 (Int32.ofNat r) = Int32.ofNat f.2.2.2.2.2.1 := by show fv_gw σ1 7 (Int32.ofNat r).toNatClampNeg = _; rw [i2, x2.2.1.2.2.1 7 (by omega)]; exact d4
  obtain ⟨σ2, y1, y2⟩ := xJ_lo x2 (o := 1) (by omega) d8 nx v1 d10 e2
  rw [if_pos i1, g7, show zX3_layOperand 1 (Int32.ofNat f.2.2.2.2.2.1) nx σ1 = fv_rv σ2 from y1, fv_bv_rv]
  exact ⟨σ2, rfl, by rw [e3]; exact y2⟩
theorem x_iof {f : p_F} {r : Nat} {iv v0 v1 : Int32} {σ : fv_S} (hr : r < 696) (D : xDt f r iv v0 v1 σ) (hx : f.2.2.2.1 = 10 ∨ f.2.2.2.2.2.1 = 10) : zX3_indexOf (Int32.ofNat r) σ = fv_ri iv σ := by
  obtain ⟨d1, d2, d3, d4, d5, d6, d7, d8, d9, d10, d11⟩ := D
  obtain ⟨i1, i2⟩ := p_inN r 900 (by omega) (by omega)
  have g5 : fv_ga σ 5 (Int32.ofNat r) = Int32.ofNat f.2.2.2.1 := by show fv_gw σ 5 (Int32.ofNat r).toNatClampNeg = _; rw [i2]; exact d3
  have e0 : Int32.ofNat f.2.2.2.1 = 10 ↔ f.2.2.2.1 = 10 := p_eqN _ 10 (by omega) (by omega)
  unfold zX3_indexOf zX3_indexOf_19
  rw [if_pos i1, g5, d11 hx]
  by_cases c : f.2.2.2.1 = 10
  · rw [if_neg (not_not_intro (e0.2 c)), if_pos c, if_pos (show fv_in 0 2 by decide), if_pos (show fv_in 0 2 by decide)]
    show (if fv_gw σ 23 0 = 0 then fv_ri 0 σ else fv_ri (fv_gw σ 25 0) σ) = _
    rw [d9]
    by_cases z : fv_gw σ 23 0 = 0
    · rw [if_pos z, if_pos z]
    · rw [if_neg z, if_neg z]
  · rw [if_pos (show ¬ Int32.ofNat f.2.2.2.1 = 10 from fun x => c (e0.1 x)), if_neg c, if_pos (show fv_in 1 2 by decide), if_pos (show fv_in 1 2 by decide)]
    show (if fv_gw σ 23 1 = 0 then fv_ri 0 σ else fv_ri (fv_gw σ 25 1) σ) = _
    rw [d10]
    by_cases z : fv_gw σ 23 1 = 0
    · rw [if_pos z, if_pos z]
    · rw [if_neg z, if_neg z]
theorem xJ_D {B : Nat → Nat} {n : Nat} {sec : Bool} {L : List (List Nat × Int32)} {h : Nat} {I : List (Bool × Bool)} {org : Nat} {G : Option (Nat × Nat)} {M : qMem} {σ0 σ : fv_S} {l : List Nat} (H : xJ B n sec L h I org G M σ0 l σ) {iv v0 v1 : Int32} {r : Nat} {f : p_F} (hr : r < 696) (D : xDt f r iv v0 v1 σ0) : xDt f r iv v0 v1 σ := xDt_c D (fun a ha => H.2.1.2.2.1 a (by omega))
theorem xJ_186 {B : Nat → Nat} {n : Nat} {sec : Bool} {L : List (List Nat × Int32)} {h : Nat} {I : List (Bool × Bool)} {org : Nat} {G : Option (Nat × Nat)} {M : qMem} {σ0 σ : fv_S} {l : List Nat} (H : xJ B n sec L h I org G M σ0 l σ) {iv v0 v1 : Int32} {r : Nat} {f : p_F} (hr : r < 696) (D : xDt f r iv v0 v1 σ0) (N : Nat) (nx : Int32) (hh : sec = true → h + (l ++ qi1 f iv v0 v1 nx).length ≤ 65536) : ∃ σ', zX3_instruction_186 N (Int32.ofNat r) nx (Int32.ofNat f.1) σ = fv_rv σ' ∧ xJ B n sec L h I org G M σ0 (l ++ qi1 f iv v0 v1 nx) σ' := by
  have D0 := D
  obtain ⟨d1, d2, d3, d4, d5, d6, d7, d8, d9, d10, d11⟩ := D
  obtain ⟨i1, i2⟩ := p_inN r 900 (by omega) (by omega)
  obtain ⟨e1, e2, e3⟩ := qi_le hh [f.2.1] ((if f.1 < 5 ∧ (f.2.2.2.1 = 10 ∨ f.2.2.2.2.2.1 = 10) then [qoc iv] else []) ++ qi2 f v0 v1 nx) rfl
  have g10 : fv_ga σ 10 (Int32.ofNat r) = Int32.ofNat f.2.1 := by show fv_gw σ 10 (Int32.ofNat r).toNatClampNeg = _; rw [i2, H.2.1.2.2.1 10 (by omega)]; exact d2
  have oc : qoc (Int32.ofNat f.2.1) = f.2.1 := qoc_n _ (by omega)
  obtain ⟨σ1, x1, x2⟩ := xJ_lay H (Int32.ofNat f.2.1) (by rw [oc]; exact e1)
  rw [oc] at x2
  have l5 : (5 : Int32) ≤ Int32.ofNat f.1 ↔ 5 ≤ f.1 := p_leN 5 f.1 (by omega) (by omega)
  unfold zX3_instruction_186
  rw [if_pos i1, g10, x1, fv_bv_rv, e3]
  by_cases c5 : 5 ≤ f.1
  · rw [if_neg (show ¬ (f.1 < 5 ∧ _) from fun e => absurd e.1 (by omega))] at e2 ⊢
    rw [if_pos (l5.2 c5)]
    exact xJ_225 x2 hr D0 N nx e2
  · rw [if_neg (fun e => c5 (l5.1 e))]
    have D1 := xJ_D x2 hr D0
    rw [x_hix hr d7 d8 D1.2.2.1 D1.2.2.2.1, fv_bi_ri]
    by_cases cx : f.2.2.2.1 = 10 ∨ f.2.2.2.2.2.1 = 10
    · rw [if_pos (show f.1 < 5 ∧ _ from ⟨by omega, cx⟩)] at e2 ⊢
      rw [if_pos cx, if_neg (show ¬ Int32.ofNat 1 = 0 by decide), x_iof hr D1 cx, fv_bi_ri]
      obtain ⟨a1, a2, a3⟩ := qi_le e2 [qoc iv] (qi2 f v0 v1 nx) rfl
      obtain ⟨σ2, y1, y2⟩ := xJ_lay x2 iv a1
      rw [y1, fv_bv_rv, a3]
      exact xJ_225 y2 hr D0 N nx a2
    · rw [if_neg (show ¬ (f.1 < 5 ∧ _) from fun e => cx e.2)] at e2 ⊢
      rw [if_neg cx, if_pos (show Int32.ofNat 0 = 0 from rfl)]
      exact xJ_225 x2 hr D0 N nx e2
theorem xJ_171 {B : Nat → Nat} {n : Nat} {sec : Bool} {L : List (List Nat × Int32)} {h : Nat} {I : List (Bool × Bool)} {org : Nat} {G : Option (Nat × Nat)} {M : qMem} {σ0 σ : fv_S} {l : List Nat} (H : xJ B n sec L h I org G M σ0 l σ) {iv v0 v1 : Int32} {r : Nat} {f : p_F} (hr : r < 696) (D : xDt f r iv v0 v1 σ0) (N : Nat) (nx : Int32) (h5 : 5 ≤ f.1 → f.2.2.2.1 = 10 ∨ f.2.2.2.2.2.1 = 10) (hh : sec = true → h + (l ++ ((if 5 ≤ f.1 then [qoc iv] else []) ++ qi1 f iv v0 v1 nx)).length ≤ 65536) : ∃ σ', zX3_instruction_171 N (Int32.ofNat r) nx (Int32.ofNat f.1) σ = fv_rv σ' ∧ xJ B n sec L h I org G M σ0 (l ++ ((if 5 ≤ f.1 then [qoc iv] else []) ++ qi1 f iv v0 v1 nx)) σ' := by
  have l5 : Int32.ofNat f.1 < 5 ↔ f.1 < 5 := p_ltN f.1 5 (by have := D.2.2.2.2.1; omega) (by omega)
  unfold zX3_instruction_171
  by_cases c5 : 5 ≤ f.1
  · rw [if_neg (fun e => absurd (l5.1 e) (by omega)), x_iof hr (xJ_D H hr D) (h5 c5), fv_bi_ri]
    rw [if_pos c5] at hh ⊢
    obtain ⟨a1, a2, a3⟩ := qi_le hh [qoc iv] (qi1 f iv v0 v1 nx) rfl
    obtain ⟨σ2, y1, y2⟩ := xJ_lay H iv a1
    rw [y1, fv_bv_rv, a3]
    exact xJ_186 y2 hr D N nx a2
  · rw [if_neg c5] at hh ⊢
    rw [if_pos (l5.2 (by omega))]
    exact xJ_186 H hr D N nx hh
theorem xJ_152 {B : Nat → Nat} {n : Nat} {sec : Bool} {L : List (List Nat × Int32)} {h : Nat} {I : List (Bool × Bool)} {org : Nat} {G : Option (Nat × Nat)} {M : qMem} {σ0 σ : fv_S} {l : List Nat} (H : xJ B n sec L h I org G M σ0 l σ) {iv v0 v1 : Int32} {r : Nat} {f : p_F} (hr : r < 696) (D : xDt f r iv v0 v1 σ0) (N : Nat) (nx : Int32) (h5 : 5 ≤ f.1 → f.2.2.2.1 = 10 ∨ f.2.2.2.2.2.1 = 10) (hh : sec = true → h + (l ++ qi0 f iv v0 v1 nx).length ≤ 65536) : ∃ σ', zX3_instruction_152 N (Int32.ofNat r) nx (Int32.ofNat f.1) σ = fv_rv σ' ∧ xJ B n sec L h I org G M σ0 (l ++ qi0 f iv v0 v1 nx) σ' := by
  have l5 : Int32.ofNat f.1 < 5 ↔ f.1 < 5 := p_ltN f.1 5 (by have := D.2.2.2.2.1; omega) (by omega)
  have e1 : Int32.ofNat f.1 = 1 ↔ f.1 = 1 := p_eqN f.1 1 (by have := D.2.2.2.2.1; omega) (by omega)
  unfold qi0 at hh ⊢
  by_cases c : f.1 = 1 ∨ 5 ≤ f.1
  · rw [if_pos c] at hh ⊢
    obtain ⟨a1, a2, a3⟩ := qi_le hh [203] _ rfl
    have q : qoc 203 = 203 := qoc_n 203 (by omega)
    obtain ⟨σ2, y1, y2⟩ := xJ_lay H 203 (by rw [q]; exact a1)
    rw [q] at y2
    rw [a3]
    have e164 : zX3_instruction_152 N (Int32.ofNat r) nx (Int32.ofNat f.1) σ = zX3_instruction_171 N (Int32.ofNat r) nx (Int32.ofNat f.1) σ2 := by
      unfold zX3_instruction_152 zX3_instruction_164
      rw [y1, fv_bv_rv]
      by_cases c1 : f.1 = 1
      · rw [if_pos (e1.2 c1)]
      · rw [if_neg (fun e => c1 (e1.1 e)), if_neg (fun e => absurd (l5.1 e) (by omega))]
    rw [e164]
    exact xJ_171 y2 hr D N nx h5 a2
  · rw [if_neg c] at hh ⊢
    unfold zX3_instruction_152
    rw [if_neg (fun e => c (Or.inl (e1.1 e))), if_pos (l5.2 (by omega))]
    exact xJ_171 H hr D N nx h5 hh
theorem xJ_121 {B : Nat → Nat} {n : Nat} {sec : Bool} {L : List (List Nat × Int32)} {h : Nat} {I : List (Bool × Bool)} {org : Nat} {G : Option (Nat × Nat)} {M : qMem} {σ0 σ : fv_S} {l : List Nat} (H : xJ B n sec L h I org G M σ0 l σ) {iv v0 v1 : Int32} {r : Nat} {f : p_F} (hr : r < 696) (D : xDt f r iv v0 v1 σ0) (N : Nat) (nx : Int32) (h5 : 5 ≤ f.1 → f.2.2.2.1 = 10 ∨ f.2.2.2.2.2.1 = 10) (hh : sec = true → h + (l ++ ((if f.1 = 3 ∨ f.1 = 5 then [221] else if f.1 = 4 ∨ f.1 = 6 then [253] else []) ++ qi0 f iv v0 v1 nx)).length ≤ 65536) : ∃ σ', zX3_instruction_121 N (Int32.ofNat r) nx (Int32.ofNat f.1) σ = fv_rv σ' ∧ xJ B n sec L h I org G M σ0 (l ++ ((if f.1 = 3 ∨ f.1 = 5 then [221] else if f.1 = 4 ∨ f.1 = 6 then [253] else []) ++ qi0 f iv v0 v1 nx)) σ' := by
  have hP := D.2.2.2.2.1
  have l3 : Int32.ofNat f.1 < 3 ↔ f.1 < 3 := p_ltN f.1 3 (by omega) (by omega)
  have e3 : Int32.ofNat f.1 = 3 ↔ f.1 = 3 := p_eqN f.1 3 (by omega) (by omega)
  have e5 : Int32.ofNat f.1 = 5 ↔ f.1 = 5 := p_eqN f.1 5 (by omega) (by omega)
  have q1 : qoc 221 = 221 := qoc_n 221 (by omega)
  have q2 : qoc 253 = 253 := qoc_n 253 (by omega)
  by_cases c1 : f.1 = 3 ∨ f.1 = 5
  · rw [if_pos c1] at hh ⊢
    obtain ⟨a1, a2, a3⟩ := qi_le hh [221] _ rfl
    obtain ⟨σ2, y1, y2⟩ := xJ_lay H 221 (by rw [q1]; exact a1)
    rw [q1] at y2
    rw [a3]
    have e : zX3_instruction_121 N (Int32.ofNat r) nx (Int32.ofNat f.1) σ = zX3_instruction_152 N (Int32.ofNat r) nx (Int32.ofNat f.1) σ2 := by
      unfold zX3_instruction_121 zX3_instruction_140 zX3_instruction_149
      rw [y1, fv_bv_rv, if_neg (fun e => absurd (l3.1 e) (by omega))]
      by_cases c3 : f.1 = 3
      · rw [if_pos (e3.2 c3)]
      · rw [if_neg (fun e => c3 (e3.1 e)), if_neg (not_not_intro (e5.2 (by omega)))]
    rw [e]
    exact xJ_152 y2 hr D N nx h5 a2
  · rw [if_neg c1] at hh ⊢
    by_cases c2 : f.1 = 4 ∨ f.1 = 6
    · rw [if_pos c2] at hh ⊢
      obtain ⟨a1, a2, a3⟩ := qi_le hh [253] _ rfl
      obtain ⟨σ2, y1, y2⟩ := xJ_lay H 253 (by rw [q2]; exact a1)
      rw [q2] at y2
      rw [a3]
      have e : zX3_instruction_121 N (Int32.ofNat r) nx (Int32.ofNat f.1) σ = zX3_instruction_152 N (Int32.ofNat r) nx (Int32.ofNat f.1) σ2 := by
        unfold zX3_instruction_121 zX3_instruction_149
        rw [y1, fv_bv_rv, if_neg (fun e => absurd (l3.1 e) (by omega)), if_neg (fun e => absurd (e3.1 e) (by omega)), if_pos (show ¬ Int32.ofNat f.1 = 5 from fun e => absurd (e5.1 e) (by omega))]
      rw [e]
      exact xJ_152 y2 hr D N nx h5 a2
    · rw [if_neg c2] at hh ⊢
      unfold zX3_instruction_121
      rw [if_pos (l3.2 (by omega))]
      exact xJ_152 H hr D N nx h5 hh
theorem xJ_top {B : Nat → Nat} {n : Nat} {sec : Bool} {L : List (List Nat × Int32)} {h : Nat} {I : List (Bool × Bool)} {org : Nat} {G : Option (Nat × Nat)} {M : qMem} {σ0 σ : fv_S} {l : List Nat} (H : xJ B n sec L h I org G M σ0 l σ) {iv v0 v1 : Int32} {r : Nat} {f : p_F} (hr : r < 696) (D : xDt f r iv v0 v1 σ0) (N : Nat) (nx : Int32) (h5 : 5 ≤ f.1 → f.2.2.2.1 = 10 ∨ f.2.2.2.2.2.1 = 10) (hh : sec = true → h + (l ++ qIl f iv v0 v1 nx).length ≤ 65536) : ∃ σ', (if ¬ Int32.ofNat f.1 = 2 then zX3_instruction_121 N (Int32.ofNat r) nx (Int32.ofNat f.1) σ else fv_bv (zX3_lay 237 σ) (fun σ30 => zX3_instruction_121 N (Int32.ofNat r) nx (Int32.ofNat f.1) σ30) fv_no) = fv_rv σ' ∧ xJ B n sec L h I org G M σ0 (l ++ qIl f iv v0 v1 nx) σ' := by
  have hP := D.2.2.2.2.1
  have e2 : Int32.ofNat f.1 = 2 ↔ f.1 = 2 := p_eqN f.1 2 (by omega) (by omega)
  have q1 : qoc 237 = 237 := qoc_n 237 (by omega)
  unfold qIl at hh ⊢
  by_cases c : f.1 = 2
  · rw [if_pos c] at hh ⊢
    obtain ⟨a1, a2, a3⟩ := qi_le hh [237] _ rfl
    obtain ⟨σ2, y1, y2⟩ := xJ_lay H 237 (by rw [q1]; exact a1)
    rw [q1] at y2
    rw [a3, if_neg (not_not_intro (e2.2 c)), y1, fv_bv_rv]
    exact xJ_121 y2 hr D N nx h5 a2
  · rw [if_neg c] at hh ⊢
    rw [if_pos (show ¬ Int32.ofNat f.1 = 2 from fun e => c (e2.1 e))]
    exact xJ_121 H hr D N nx h5 hh
