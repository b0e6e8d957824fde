set_option maxRecDepth 100000
set_option maxHeartbeats 4000000
/-! The plain law: an instruction in the class: its numbers are checked. -/
/-- the class holds a number -/
def xOv (sec : Bool) (o c : Nat) (ev : Option (Nat × Nat)) (v : Int32) (pl : Nat) (σ : fv_S) : Prop := fv_gw σ 21 o = Int32.ofNat (qsr c) ∧ c ≤ 6 ∧ (3 ≤ c → fv_gw σ 23 o = q01 (decide (4 ≤ c))) ∧ (4 ≤ c → fv_gw σ 26 o = Int32.ofNat pl ∧ pl ≤ 6000 ∧ (sec = true → (fv_gw σ 24 o = 0 ↔ ev ≠ none)) ∧ (sec = true → ev = none → fv_gw σ 25 o = v))
theorem xOv_c {sec : Bool} {o c : Nat} {ev : Option (Nat × Nat)} {v : Int32} {pl : Nat} {σ σ' : fv_S} (h : xOv sec o c ev v pl σ) (g : ∀ a, 21 ≤ a → a ≤ 26 → fv_gw σ' a = fv_gw σ a) : xOv sec o c ev v pl σ' := by
  unfold xOv
  rw [g 21 (by omega) (by omega), g 23 (by omega) (by omega), g 24 (by omega) (by omega), g 25 (by omega) (by omega), g 26 (by omega) (by omega)]; exact h
/-- whether a number fits the word's part, its form's kind -/
def qRp (pk : Nat) (v : Int32) : Bool := if pk = 1 then qin v 0 7 else if pk = 2 then (if ¬ v &&& 7 = 0 then false else qin v 0 56) else if pk = 3 then qin v 0 2 else true
def qRk (k : Nat) (v nx : Int32) : Bool := if k = 4 ∨ k = 8 then qin v (-128) 255 else if k = 5 ∨ k = 7 then qin v (-32768) 65535 else if k = 6 then qin ((Int32.toInt16 (v - nx)).toInt32) (-128) 127 else if k = 10 then qin v (-128) 127 else true
def xTold (σ σ' : fv_S) : Prop := (∀ k, k ≠ 1563 → k ≠ 1564 → fv_gi σ' k = fv_gi σ k) ∧ σ'.2 = σ.2
theorem xTold_r (σ : fv_S) : xTold σ σ := ⟨fun _ _ _ => rfl, rfl⟩
theorem xTold_t {a b c : fv_S} (h : xTold a b) (g : xTold b c) : xTold a c := ⟨fun k h1 h2 => (g.1 k h1 h2).trans (h.1 k h1 h2), g.2.trans h.2⟩
theorem x_chn {sec : Bool} {σ : fv_S} {G : Option (Nat × Nat)} (h41 : fv_gi σ 1541 = q01 sec) (hR : xR G σ) {c pl w : Nat} {ev : Option (Nat × Nat)} {v : Int32} (hw : w < 67) (hv : xOv sec 0 c ev v pl σ) :
    ∃ σ', zX3_checkNumber (Int32.ofNat w) σ = fv_rv σ' ∧ xR (if sec = true ∧ c = 6 ∧ ev = none ∧ qRp (e_pk w) v = false then qtm G (5, pl) else G) σ' ∧ xTold σ σ' := by
  obtain ⟨v1, v2, v3, v4⟩ := hv
  have e5 : fv_ga σ 21 0 = 5 ↔ c = 6 := by
    show fv_gw σ 21 0 = 5 ↔ _
    rw [v1]
    refine (p_eqN (qsr c) 5 (by unfold qsr; split <;> omega) (by omega)).trans ?_
    unfold qsr; split <;> omega
  unfold zX3_checkNumber
  rw [h41]
  by_cases hs : sec = true
  · rw [if_neg (show ¬ q01 sec = 0 by rw [hs]; decide)]
    by_cases c6 : c = 6
    · rw [if_neg (not_not_intro (e5.2 c6))]
      obtain ⟨a1, a2, a3, a4⟩ := v4 (by omega)
      by_cases hev : ev = none
      · have a5 : fv_ga σ 25 0 = v := a4 hs hev
        have a6 : fv_ga σ 26 0 = Int32.ofNat pl := a1
        rw [if_pos (show ¬ fv_ga σ 24 0 = 0 from fun e => (a3 hs).1 e hev)]
        have rg : ∀ (x a b : Int32) (bad : Bool), (qin x a b = false ↔ bad = true) → ∃ σ', zX3_inRange x a b (Int32.ofNat pl) σ = fv_rv σ' ∧ xR (if bad = true then qtm G (5, pl) else G) σ' ∧ xTold σ σ' := by
          intro x a b bad hb
          obtain ⟨σ', x1, x2, x3, x4⟩ := x_inr h41 hR x a b pl a2
          refine ⟨σ', x1, ?_, x3, x4⟩
          by_cases hq : qin x a b = false
          · rw [if_pos ⟨hs, hq⟩] at x2; rw [if_pos (hb.1 hq)]; exact x2
          · rw [if_neg (fun e => hq e.2)] at x2; rw [if_neg (fun e => hq (hb.2 e))]; exact x2
        have lt42 : Int32.ofNat w < 42 ↔ w < 42 := p_ltN w 42 (by omega) (by omega)
        have le45 : (45 : Int32) ≤ Int32.ofNat w ↔ 45 ≤ w := p_leN 45 w (by omega) (by omega)
        have e48 : Int32.ofNat w = 48 ↔ w = 48 := p_eqN w 48 (by omega) (by omega)
        have e34 : Int32.ofNat w = 34 ↔ w = 34 := p_eqN w 34 (by omega) (by omega)
        have pkv : ∀ w, w < 67 → e_pk w = (if 42 ≤ w ∧ w ≤ 44 then 1 else if w = 34 then 2 else if w = 48 then 3 else 0) := by decide +kernel
        have pkw := pkv w hw
        have z58 : ∀ s : fv_S, w ≠ 48 → w ≠ 34 → zX3_checkNumber_58 (Int32.ofNat w) s = fv_rv s := by
          intro s n1 n2
          unfold zX3_checkNumber_58 zX3_checkNumber_82
          rw [if_pos (fun e => n1 (e48.1 e)), if_pos (fun e => n2 (e34.1 e))]
        by_cases k1 : 42 ≤ w ∧ w ≤ 44
        · rw [if_pos k1] at pkw
          rw [if_neg (fun e => absurd (lt42.1 e) (by omega)), if_neg (fun e => absurd (le45.1 e) (by omega)), a5, a6]
          obtain ⟨σ', x1, x2, x3⟩ := rg v 0 7 (!qin v 0 7) (by cases qin v 0 7 <;> simp)
          rw [x1, fv_bv_rv, z58 _ (by omega) (by omega)]
          refine ⟨σ', rfl, ?_, x3⟩
          have : (sec = true ∧ c = 6 ∧ ev = none ∧ qRp (e_pk w) v = false) ↔ (!qin v 0 7) = true := by
            rw [pkw]; show _ ∧ _ ∧ _ ∧ qin v 0 7 = false ↔ _
            constructor
            · intro h; rw [h.2.2.2]; rfl
            · intro h; exact ⟨hs, c6, hev, by cases hq : qin v 0 7 with | true => rw [hq] at h; exact absurd h (by decide) | false => rfl⟩
          simp only [this]; exact x2
        · rw [if_neg k1] at pkw
          have e58 : (if Int32.ofNat w < 42 then zX3_checkNumber_58 (Int32.ofNat w) σ else if (45 : Int32) ≤ Int32.ofNat w then zX3_checkNumber_58 (Int32.ofNat w) σ else fv_bv (zX3_inRange (fv_ga σ 25 0) 0 7 (fv_ga σ 26 0) σ) (fun σ3 => zX3_checkNumber_58 (Int32.ofNat w) σ3) fv_no) = zX3_checkNumber_58 (Int32.ofNat w) σ := by
            by_cases q : w < 42
            · rw [if_pos (lt42.2 q)]
            · rw [if_neg (fun e => q (lt42.1 e)), if_pos (le45.2 (by omega))]
          rw [e58]
          by_cases k2 : w = 34
          · rw [if_pos k2] at pkw
            unfold zX3_checkNumber_58 zX3_checkNumber_82 zX3_checkNumber_111
            rw [if_pos (fun e => absurd (e48.1 e) (by omega)), if_neg (not_not_intro (e34.2 k2)), a5, a6]
            have q2 : qRp 2 v = (if ¬ v &&& 7 = 0 then false else qin v 0 56) := rfl
            by_cases k7 : v &&& 7 = 0
            · rw [if_neg (not_not_intro k7)]
              obtain ⟨σ', x1, x2, x3⟩ := rg v 0 56 (!qin v 0 56) (by cases qin v 0 56 <;> simp)
              rw [x1, fv_bv_rv]
              refine ⟨σ', rfl, ?_, x3⟩
              have : (sec = true ∧ c = 6 ∧ ev = none ∧ qRp (e_pk w) v = false) ↔ (!qin v 0 56) = true := by
                rw [pkw, q2, if_neg (not_not_intro k7)]
                constructor
                · intro h; rw [h.2.2.2]; rfl
                · intro h; exact ⟨hs, c6, hev, by cases hq : qin v 0 56 with | true => rw [hq] at h; exact absurd h (by decide) | false => rfl⟩
              simp only [this]; exact x2
            · rw [if_pos k7]
              obtain ⟨σ', x1, x2, x3⟩ := rg (-1) 0 56 true (by decide)
              rw [x1, fv_bv_rv]
              refine ⟨σ', rfl, ?_, x3⟩
              rw [if_pos ⟨hs, c6, hev, by rw [pkw, q2, if_pos k7]⟩]
              rw [if_pos rfl] at x2; exact x2
          · rw [if_neg k2] at pkw
            by_cases k3 : w = 48
            · rw [if_pos k3] at pkw
              unfold zX3_checkNumber_58
              rw [if_neg (not_not_intro (e48.2 k3)), a5, a6]
              obtain ⟨σ', x1, x2, x3⟩ := rg v 0 2 (!qin v 0 2) (by cases qin v 0 2 <;> simp)
              rw [x1, fv_bv_rv]
              unfold zX3_checkNumber_82
              rw [if_pos (fun e => k2 (e34.1 e))]
              refine ⟨σ', rfl, ?_, x3⟩
              have : (sec = true ∧ c = 6 ∧ ev = none ∧ qRp (e_pk w) v = false) ↔ (!qin v 0 2) = true := by
                rw [pkw]; show _ ∧ _ ∧ _ ∧ qin v 0 2 = false ↔ _
                constructor
                · intro h; rw [h.2.2.2]; rfl
                · intro h; exact ⟨hs, c6, hev, by cases hq : qin v 0 2 with | true => rw [hq] at h; exact absurd h (by decide) | false => rfl⟩
              simp only [this]; exact x2
            · rw [if_neg k3] at pkw
              rw [z58 _ k3 k2]
              refine ⟨σ, rfl, ?_, xTold_r σ⟩
              rw [if_neg (fun e => by have := e.2.2.2; rw [pkw] at this; exact absurd (show true = false from this) (by decide))]; exact hR
      · rw [if_neg (show ¬ ¬ fv_ga σ 24 0 = 0 from not_not_intro ((a3 hs).2 hev)), if_neg (fun e => hev e.2.2.1)]
        exact ⟨σ, rfl, hR, xTold_r σ⟩
    · rw [if_pos (fun e => c6 (e5.1 e)), if_neg (fun e => c6 e.2.1)]
      exact ⟨σ, rfl, hR, xTold_r σ⟩
  · rw [if_pos (show q01 sec = 0 by cases hx : sec; rfl; exact absurd hx hs), if_neg (fun e => hs e.1)]
    exact ⟨σ, rfl, hR, xTold_r σ⟩
theorem x_chv {sec : Bool} {σ : fv_S} {G : Option (Nat × Nat)} (h41 : fv_gi σ 1541 = q01 sec) (hR : xR G σ) {o c pl k : Nat} (ho : o < 2) (hk : k < 15) {ev : Option (Nat × Nat)} {v : Int32} (nx : Int32) (hv : xOv sec o c ev v pl σ) :
    ∃ σ', zX3_checkValue (Int32.ofNat o) (Int32.ofNat k) nx σ = fv_rv σ' ∧ xR (if sec = true ∧ 4 ≤ c ∧ ev = none ∧ qRk k v nx = false then qtm G (5, pl) else G) σ' ∧ xTold σ σ' := by
  obtain ⟨v1, v2, v3, v4⟩ := hv
  obtain ⟨i1, i2⟩ := p_inN o 2 ho (by omega)
  have ga : ∀ a, fv_ga σ a (Int32.ofNat o) = fv_gw σ a o := fun a => by show fv_gw σ a (Int32.ofNat o).toNatClampNeg = _; rw [i2]
  unfold zX3_checkValue
  rw [if_pos i1, if_pos i1, ga 21, v1]
  have l3 : Int32.ofNat (qsr c) < 3 ↔ c < 3 := (p_ltN (qsr c) 3 (by unfold qsr; split <;> omega) (by omega)).trans (by unfold qsr; split <;> omega)
  by_cases c3 : c < 3
  · rw [if_pos (l3.2 c3), if_neg (fun e => absurd e.2.1 (by omega))]; exact ⟨σ, rfl, hR, xTold_r σ⟩
  rw [if_neg (fun e => c3 (l3.1 e)), if_pos i1, ga 23, v3 (by omega)]
  by_cases c4 : 4 ≤ c
  · rw [decide_eq_true c4, if_neg (show ¬ q01 true = 0 by decide), if_pos i1, ga 24, ga 25]
    obtain ⟨a1, a2, a3, a4⟩ := v4 c4
    have a6 : fv_ga σ 26 (Int32.ofNat o) = Int32.ofNat pl := (ga 26).trans a1
    by_cases hs : sec = true
    · by_cases hev : ev = none
      · rw [if_pos (show ¬ fv_gw σ 24 o = 0 from fun e => (a3 hs).1 e hev), a4 hs hev]
        have rg : ∀ (x a b : Int32), qRk k v nx = qin x a b → ∃ σ', fv_bv (zX3_inRange x a b (fv_ga σ 26 (Int32.ofNat o)) σ) (fun s => fv_rv s) fv_no = fv_rv σ' ∧ xR (if sec = true ∧ 4 ≤ c ∧ ev = none ∧ qRk k v nx = false then qtm G (5, pl) else G) σ' ∧ xTold σ σ' := by
          intro x a b hb
          obtain ⟨σ', x1, x2, x3, x4⟩ := x_inr h41 hR x a b pl a2
          rw [a6, x1, fv_bv_rv]
          refine ⟨σ', rfl, ?_, x3, x4⟩
          rw [hb]
          by_cases hq : qin x a b = false
          · rw [if_pos ⟨hs, hq⟩] at x2; rw [if_pos ⟨hs, c4, hev, hq⟩]; exact x2
          · rw [if_neg (fun e => hq e.2)] at x2; rw [if_neg (fun e => hq e.2.2.2)]; exact x2
        have no : qRk k v nx = true → ∃ σ', fv_rv σ = fv_rv σ' ∧ xR (if sec = true ∧ 4 ≤ c ∧ ev = none ∧ qRk k v nx = false then qtm G (5, pl) else G) σ' ∧ xTold σ σ' := by
          intro h
          rw [if_neg (fun e => by have := e.2.2.2; rw [h] at this; exact absurd this (by decide))]
          exact ⟨σ, rfl, hR, xTold_r σ⟩
        have kk : k = 0 ∨ k = 1 ∨ k = 2 ∨ k = 3 ∨ k = 4 ∨ k = 5 ∨ k = 6 ∨ k = 7 ∨ k = 8 ∨ k = 9 ∨ k = 10 ∨ k = 11 ∨ k = 12 ∨ k = 13 ∨ k = 14 := by omega
        unfold zX3_checkValue_80 zX3_checkValue_100
        rw [if_pos i1, if_pos i1, if_pos i1, if_pos i1]
        rcases kk with rfl | rfl | rfl | rfl | rfl | rfl | rfl | rfl | rfl | rfl | rfl | rfl | rfl | rfl | rfl
        · exact no rfl
        · exact no rfl
        · exact no rfl
        · exact no rfl
        · exact rg v (-128) 255 rfl
        · exact rg v (-32768) 65535 rfl
        · exact rg _ (-128) 127 rfl
        · exact rg v (-32768) 65535 rfl
        · exact rg v (-128) 255 rfl
        · exact no rfl
        · exact rg v (-128) 127 rfl
        · exact no rfl
        · exact no rfl
        · exact no rfl
        · exact no rfl
      · rw [if_neg (not_not_intro ((a3 hs).2 hev)), if_neg (fun e => hev e.2.2.1)]
        exact ⟨σ, rfl, hR, xTold_r σ⟩
    · rw [if_neg (show ¬ (sec = true ∧ 4 ≤ c ∧ ev = none ∧ qRk k v nx = false) from fun e => hs e.1)]
      have rg : ∀ (x a b : Int32), ∃ σ', fv_bv (zX3_inRange x a b (fv_ga σ 26 (Int32.ofNat o)) σ) (fun s => fv_rv s) fv_no = fv_rv σ' ∧ xR G σ' ∧ xTold σ σ' := by
        intro x a b
        obtain ⟨σ', x1, x2, x3, x4⟩ := x_inr h41 hR x a b pl a2
        rw [a6, x1, fv_bv_rv]
        rw [if_neg (fun e => hs e.1)] at x2
        exact ⟨σ', rfl, x2, x3, x4⟩
      by_cases h24 : fv_gw σ 24 o = 0
      · rw [if_neg (not_not_intro h24)]; exact ⟨σ, rfl, hR, xTold_r σ⟩
      · rw [if_pos h24]
        have kk : k = 0 ∨ k = 1 ∨ k = 2 ∨ k = 3 ∨ k = 4 ∨ k = 5 ∨ k = 6 ∨ k = 7 ∨ k = 8 ∨ k = 9 ∨ k = 10 ∨ k = 11 ∨ k = 12 ∨ k = 13 ∨ k = 14 := by omega
        unfold zX3_checkValue_80 zX3_checkValue_100
        rw [if_pos i1, if_pos i1, if_pos i1, if_pos i1]
        rcases kk with rfl | rfl | rfl | rfl | rfl | rfl | rfl | rfl | rfl | rfl | rfl | rfl | rfl | rfl | rfl
        · exact ⟨σ, rfl, hR, xTold_r σ⟩
        · exact ⟨σ, rfl, hR, xTold_r σ⟩
        · exact ⟨σ, rfl, hR, xTold_r σ⟩
        · exact ⟨σ, rfl, hR, xTold_r σ⟩
        · exact rg _ (-128) 255
        · exact rg _ (-32768) 65535
        · exact rg _ (-128) 127
        · exact rg _ (-32768) 65535
        · exact rg _ (-128) 255
        · exact ⟨σ, rfl, hR, xTold_r σ⟩
        · exact rg _ (-128) 127
        · exact ⟨σ, rfl, hR, xTold_r σ⟩
        · exact ⟨σ, rfl, hR, xTold_r σ⟩
        · exact ⟨σ, rfl, hR, xTold_r σ⟩
        · exact ⟨σ, rfl, hR, xTold_r σ⟩
  · rw [decide_eq_false c4, if_pos (show q01 false = 0 by decide), if_neg (fun e => c4 e.2.1)]
    exact ⟨σ, rfl, hR, xTold_r σ⟩
