set_option maxRecDepth 100000
set_option maxHeartbeats 4000000
/-! The plain law: what the model writes. -/
/-- signs; from 1000 on numbers that the environment says: 1000 of two octets, 1001 of one, 1002 a place near by, 1003 a distance with its sign -/
def p_ren (E : Nat → List Nat) (t : List Nat) : List Nat := t.flatMap (fun c => if c < 1000 then [c] else E (c - 1000))
theorem p_ren_app (E : Nat → List Nat) (t u : List Nat) : p_ren E (t ++ u) = p_ren E t ++ p_ren E u := by unfold p_ren; rw [List.flatMap_append]
theorem p_ren_lit (E : Nat → List Nat) : ∀ (t : List Nat), (∀ c, c ∈ t → c < 1000) → p_ren E t = t := by
  intro t
  induction t with
  | nil => intro _; rfl
  | cons c r ih =>
    intro h
    show (if c < 1000 then [c] else E (c - 1000)) ++ p_ren E r = c :: r
    rw [if_pos (h c (by simp)), ih (fun d hd => h d (by simp [hd]))]; rfl
def p_sc (c : Int64) (x : Int32) : Int32 := Int64.toInt32 ((c >>> ((x : Int32).toInt64 &&& (63 : Int64))) &&& (255 : Int64))
def p_s1 (c : Int64) (x : Int32) : List Nat := if p_sc c x ≤ 0 then [] else [(p_sc c x).toNatClampNeg]
def p_say (c : Int64) : List Nat := p_s1 c 56 ++ (p_s1 c 48 ++ (p_s1 c 40 ++ (p_s1 c 32 ++ (p_s1 c 24 ++ (p_s1 c 16 ++ (p_s1 c 8 ++ (p_s1 c 0 ++ [])))))))
def p_asc (l : List Nat) : Bool := l.all (fun c => Nat.blt c 128)
theorem p_asc_app {a b : List Nat} (h : p_asc (a ++ b) = true) : p_asc a = true ∧ p_asc b = true := by
  unfold p_asc at h ⊢; rw [List.all_append, Bool.and_eq_true] at h; exact h
theorem p_sc_pb (c : Int64) (x : Int32) : pb (p_sc c x) := by unfold p_sc; rw [p_i32a]; exact pb_a255 _
theorem tm_s1 {σ0 : fv_S} {N m : Nat} {c : Int64} {x : Int32} {t : List Nat} (hx : ¬ x < 0) (ha : p_asc (p_s1 c x) = true) (h : pTm σ0 (fun σ => zX8_say_3 N m c (x + ((-8) : Int32)) σ) t) : pTm σ0 (fun σ => zX8_say_3 N (m + 1) c x σ) (p_s1 c x ++ t) := by
  obtain ⟨n, hn, en⟩ := pb_n (p_sc_pb c x)
  by_cases e : p_sc c x ≤ 0
  · have e1 : (fun σ => zX8_say_3 N (m + 1) c x σ) = (fun σ => zX8_say_3 N m c (x + ((-8) : Int32)) σ) := by
      funext σ
      show zX8_say_3_b _ _ _ _ _ = _
      unfold zX8_say_3_b
      rw [if_neg hx]; exact if_pos e
    rw [e1]
    have : p_s1 c x = [] := if_pos e
    rw [this]; exact h
  · have e1 : (fun σ => zX8_say_3 N (m + 1) c x σ) = (fun σ => fv_bv (zX8_one (Int32.ofNat (p_sc c x).toNatClampNeg) σ) (fun σ1 => zX8_say_3 N m c (x + ((-8) : Int32)) σ1) fv_no) := by
      funext σ
      show zX8_say_3_b _ _ _ _ _ = _
      unfold zX8_say_3_b
      rw [if_neg hx]
      refine (if_neg e).trans ?_
      have : Int32.ofNat (p_sc c x).toNatClampNeg = p_sc c x := by rw [en, p_cl n (by omega)]
      rw [this]; rfl
    rw [e1]
    have e2 : p_s1 c x = [(p_sc c x).toNatClampNeg] := if_neg e
    rw [e2] at ha ⊢
    refine tm_b (tm_one σ0 _ ?_) h
    unfold p_asc at ha
    simp only [List.all_cons, List.all_nil, Bool.and_true] at ha
    have := Nat.le_of_ble_eq_true ha
    omega
theorem tm_say (σ0 : fv_S) (n : Nat) (c : Int64) (ha : p_asc (p_say c) = true) : pTm σ0 (fun σ => zX8_say (n + 10) c σ) (p_say c) := by
  unfold p_say at ha ⊢
  obtain ⟨a1, ha⟩ := p_asc_app ha
  obtain ⟨a2, ha⟩ := p_asc_app ha
  obtain ⟨a3, ha⟩ := p_asc_app ha
  obtain ⟨a4, ha⟩ := p_asc_app ha
  obtain ⟨a5, ha⟩ := p_asc_app ha
  obtain ⟨a6, ha⟩ := p_asc_app ha
  obtain ⟨a7, ha⟩ := p_asc_app ha
  obtain ⟨a8, _⟩ := p_asc_app ha
  show pTm σ0 (fun σ => zX8_say_3 (n + 10) (n + 10) c 56 σ) _
  refine tm_s1 (m := n + 9) (by decide) a1 ?_
  refine tm_s1 (x := 48) (m := n + 8) (by decide) a2 ?_
  refine tm_s1 (x := 40) (m := n + 7) (by decide) a3 ?_
  refine tm_s1 (x := 32) (m := n + 6) (by decide) a4 ?_
  refine tm_s1 (x := 24) (m := n + 5) (by decide) a5 ?_
  refine tm_s1 (x := 16) (m := n + 4) (by decide) a6 ?_
  refine tm_s1 (x := 8) (m := n + 3) (by decide) a7 ?_
  refine tm_s1 (x := 0) (m := n + 2) (by decide) a8 ?_
  exact tm_rv σ0
/-- f writes what the template says -/
def pU (σ0 : fv_S) (E : Nat → List Nat) (f : fv_S → Option fv_O) (t : List Nat) : Prop := pTm σ0 f (p_ren E t)
theorem u_i {σ0 : fv_S} {E : Nat → List Nat} {P : Prop} {d : Decidable P} {f g : fv_S → Option fv_O} {t u : List Nat} (hf : pU σ0 E f t) (hg : pU σ0 E g u) : pU σ0 E (fun σ => @ite _ P d (f σ) (g σ)) (@ite _ P d t u) := by
  by_cases h : P
  · have : (fun σ => @ite _ P d (f σ) (g σ)) = f := funext fun σ => if_pos h
    rw [this, if_pos h]; exact hf
  · have : (fun σ => @ite _ P d (f σ) (g σ)) = g := funext fun σ => if_neg h
    rw [this, if_neg h]; exact hg
theorem u_b {σ0 : fv_S} {E : Nat → List Nat} {f g : fv_S → Option fv_O} {t u : List Nat} (hf : pU σ0 E f t) (hg : pU σ0 E g u) : pU σ0 E (fun σ => fv_bv (f σ) (fun σ1 => g σ1) fv_no) (t ++ u) := by
  unfold pU at *; rw [p_ren_app]; exact tm_b hf hg
theorem u_w {σ0 : fv_S} {E : Nat → List Nat} {f : fv_S → Option fv_O} {t : List Nat} (hf : pU σ0 E f t) : pU σ0 E (fun σ => fv_bv (f σ) (fun σ1 => fv_rv σ1) fv_no) t := tm_w hf
theorem u_rv (σ0 : fv_S) (E : Nat → List Nat) : pU σ0 E (fun σ => fv_rv σ) [] := tm_rv σ0
theorem u_lit {σ0 : fv_S} {E : Nat → List Nat} {f : fv_S → Option fv_O} {t : List Nat} (h : pTm σ0 f t) (ha : p_asc t = true) : pU σ0 E f t := by
  unfold pU
  rw [p_ren_lit E t ?_]
  · exact h
  · intro c hc
    unfold p_asc at ha
    rw [List.all_eq_true] at ha
    have := Nat.le_of_ble_eq_true (ha c hc)
    omega
theorem u_say (σ0 : fv_S) (E : Nat → List Nat) (n : Nat) (c : Int64) (ha : p_asc (p_say c) = true) : pU σ0 E (fun σ => zX8_say (n + 10) c σ) (p_say c) := u_lit (tm_say σ0 n c ha) ha
theorem u_one (σ0 : fv_S) (E : Nat → List Nat) (c : Nat) (hc : p_asc [c] = true) : pU σ0 E (fun σ => zX8_one (Int32.ofNat c) σ) [c] := by
  refine u_lit (tm_one σ0 c ?_) hc
  unfold p_asc at hc
  simp only [List.all_cons, List.all_nil, Bool.and_true] at hc
  have := Nat.le_of_ble_eq_true hc
  omega
theorem u_num (σ0 : fv_S) (E : Nat → List Nat) (n : Nat) {v : Int32} {k : Nat} (e : v = Int32.ofNat k) (hk : k < 65536) : pU σ0 E (fun σ => zX8_number (n + 10) v σ) (p_dN k) := by
  subst e
  refine u_lit (tm_num σ0 (n + 10) k (by omega) hk) ?_
  unfold p_asc
  rw [List.all_eq_true]
  intro c hc
  have := p_dlb k _ c hc
  exact Nat.ble_eq_true_of_le (by omega)
theorem u_num0 (σ0 : fv_S) (E : Nat → List Nat) (n : Nat) {v : Int32} {k j : Nat} (e : v = Int32.ofNat k) (hk : k < 65536) (hE : E j = p_dN k) : pU σ0 E (fun σ => zX8_number (n + 10) v σ) [1000 + j] := by
  unfold pU
  have : p_ren E [1000 + j] = p_dN k := by
    show (if 1000 + j < 1000 then [1000 + j] else E (1000 + j - 1000)) ++ [] = _
    rw [if_neg (by omega), List.append_nil, Nat.add_sub_cancel_left, hE]
  rw [this]
  subst e
  exact tm_num σ0 (n + 10) k (by omega) hk
/-- a function that only looks at what stays -/
theorem u_c {σ0 : fv_S} {E : Nat → List Nat} {f g : fv_S → Option fv_O} {t : List Nat} (h : ∀ σ, pSm σ0 σ → f σ = g σ) (hg : pU σ0 E g t) : pU σ0 E f t := by
  intro σ l s w hl
  rw [h σ s]; exact hg σ l s w hl
def p_tIx (i : Int32) : List Nat := if ¬ i = 0 then (if ¬ i = (1 : Int32) then p_say 18777 else p_say 18776) else p_say 18508
theorem u_ix {σ0 : fv_S} {E : Nat → List Nat} (n : Nat) {i : Int32} (hi : fv_gi σ0 60 = i) : pU σ0 E (fun σ => zX8_indexName (n + 10) σ) (p_tIx i) := by
  refine u_c (g := fun σ => if ¬ i = 0 then (if ¬ i = (1 : Int32) then fv_bv (zX8_say (n + 10) 18777 σ) (fun σ1 => fv_rv σ1) fv_no else fv_bv (zX8_say (n + 10) 18776 σ) (fun σ1 => fv_rv σ1) fv_no) else fv_bv (zX8_say (n + 10) 18508 σ) (fun σ1 => fv_rv σ1) fv_no) ?_ ?_
  · intro σ s
    unfold zX8_indexName zX8_indexName_31
    rw [s.1 60 (by omega), hi]
  · unfold p_tIx
    exact u_i (u_i (u_w (u_say σ0 E n _ (by decide))) (u_w (u_say σ0 E n _ (by decide)))) (u_w (u_say σ0 E n _ (by decide)))
/-- the distance: E 3 is its sign and its digits -/
def p_hD (E : Nat → List Nat) (d : Int32) : Prop := ∃ k, k < 256 ∧ ((d = Int32.ofNat k ∧ E 3 = 43 :: p_dN k) ∨ (d = - Int32.ofNat k ∧ ¬ (0 : Int32) ≤ d ∧ E 3 = 45 :: p_dN k))
def p_tPl (i : Int32) : List Nat := if ¬ i = 0 then [40] ++ (p_tIx i ++ ([1003] ++ [41])) else p_say 675826729
theorem u_pl {σ0 : fv_S} {E : Nat → List Nat} (n : Nat) {i d : Int32} (hi : fv_gi σ0 60 = i) (hd : fv_gi σ0 62 = d) (hE : ¬ i = 0 → p_hD E d) : pU σ0 E (fun σ => zX8_place (n + 10) σ) (p_tPl i) := by
  by_cases c : i = 0
  · have ht : p_tPl i = p_say 675826729 := if_neg (not_not_intro c)
    rw [ht]
    refine u_c (g := fun σ => fv_bv (zX8_say (n + 10) 675826729 σ) (fun σ1 => fv_rv σ1) fv_no) ?_ (u_w (u_say σ0 E n _ (by decide)))
    intro σ s
    unfold zX8_place
    rw [s.1 60 (by omega), hi, if_neg (not_not_intro c)]
  · have ht : p_tPl i = [40] ++ (p_tIx i ++ ([1003] ++ [41])) := if_pos c
    rw [ht]
    refine u_c (g := fun σ => fv_bv (zX8_one (Int32.ofNat 40) σ) (fun σ4 => fv_bv (zX8_indexName (n + 10) σ4) (fun σ5 => if (0 : Int32) ≤ (fv_gi σ5 62) then zX8_place_40 (n + 10) 43 σ5 else zX8_place_40 (n + 10) 45 σ5) fv_no) fv_no) ?_ ?_
    · intro σ s
      unfold zX8_place
      rw [s.1 60 (by omega), hi, if_pos c]; rfl
    · refine u_b (u_one σ0 E 40 (by decide)) (u_b (u_ix n hi) ?_)
      obtain ⟨k, hk, h⟩ := hE c
      have gen : ∀ (sg : Nat) (v : Int32), sg < 128 → v = Int32.ofNat k → E 3 = sg :: p_dN k → (∀ σ, pSm σ0 σ → (if (0 : Int32) ≤ (fv_gi σ 62) then zX8_place_40 (n + 10) 43 σ else zX8_place_40 (n + 10) 45 σ) = zX8_place_40 (n + 10) (Int32.ofNat sg) σ) → (∀ σ, pSm σ0 σ → (if (0 : Int32) ≤ (fv_gi σ 62) then zX8_place_63 (n + 10) (fv_gi σ 62) σ else zX8_place_63 (n + 10) (-(fv_gi σ 62)) σ) = zX8_place_63 (n + 10) v σ) → pU σ0 E (fun σ5 => if (0 : Int32) ≤ (fv_gi σ5 62) then zX8_place_40 (n + 10) 43 σ5 else zX8_place_40 (n + 10) 45 σ5) ([1003] ++ [41]) := by
        intro sg v hs hv he q1 q2
        refine u_c (g := fun σ => zX8_place_40 (n + 10) (Int32.ofNat sg) σ) q1 ?_
        have ht2 : p_ren E ([1003] ++ [41]) = [sg] ++ (p_dN k ++ [41]) := by
          show (if 1003 < 1000 then [1003] else E (1003 - 1000)) ++ ((if 41 < 1000 then [41] else E (41 - 1000)) ++ []) = _
          rw [if_neg (by omega), if_pos (by omega), show E (1003 - 1000) = sg :: p_dN k from he]; rfl
        unfold pU
        rw [ht2]
        unfold zX8_place_40
        refine tm_b (tm_one σ0 sg hs) ?_
        intro σ l s w hl
        have : (fun σ3 => if (0 : Int32) ≤ (fv_gi σ3 62) then zX8_place_63 (n + 10) (fv_gi σ3 62) σ3 else zX8_place_63 (n + 10) (-(fv_gi σ3 62)) σ3) σ = zX8_place_63 (n + 10) v σ := q2 σ s
        rw [this]
        subst hv
        have fin : pTm σ0 (fun σ => zX8_place_63 (n + 10) (Int32.ofNat k) σ) (p_dN k ++ [41]) := by
          unfold zX8_place_63
          exact tm_b (tm_num σ0 (n + 10) k (by omega) (by omega)) (tm_w (tm_one σ0 41 (by omega)))
        exact fin σ l s w hl
      rcases h with ⟨h1, h2⟩ | ⟨h1, h0, h2⟩
      · have h0 : (0 : Int32) ≤ d := by rw [h1, p_le, p_ofn k (by omega)]; show (0 : Int) ≤ _; omega
        refine gen 43 d (by omega) h1 h2 (fun σ s => ?_) (fun σ s => ?_)
        · rw [s.1 62 (by omega), hd, if_pos h0]; rfl
        · rw [s.1 62 (by omega), hd, if_pos h0]
      · refine gen 45 (-d) (by omega) (by rw [h1, Int32.neg_neg]) h2 (fun σ s => ?_) (fun σ s => ?_)
        · rw [s.1 62 (by omega), hd, if_neg h0]; rfl
        · rw [s.1 62 (by omega), hd, if_neg h0]
def p_tOc (i r : Int32) : List Nat := if ¬ r = (6 : Int32) then (if ¬ r = 0 then (if ¬ r = (1 : Int32) then (if ¬ r = (2 : Int32) then (if ¬ r = (3 : Int32) then (if ¬ r = (4 : Int32) then (if ¬ r = (5 : Int32) then [65] else [76]) else [72]) else [69]) else [68]) else [67]) else [66]) else p_tPl i
def p_tPa (i p s : Int32) : List Nat := if ¬ p = (2 : Int32) then (if ¬ p = 0 then (if ¬ p = (1 : Int32) then (if s = 0 then p_say 21328 else p_say 16710) else p_say 17477) else p_say 16963) else p_tIx i
def p_tCo (c : Int32) : List Nat := if ¬ c = 0 then (if ¬ c = (1 : Int32) then (if ¬ c = (2 : Int32) then (if ¬ c = (3 : Int32) then (if ¬ c = (4 : Int32) then (if ¬ c = (5 : Int32) then (if ¬ c = (6 : Int32) then p_say 77 else p_say 80) else p_say 20549) else p_say 20559) else p_say 67) else p_say 20035) else p_say 90) else p_say 20058
def p_tSu (y : Int32) : List Nat := if ¬ y = 0 then (if ¬ y = (1 : Int32) then (if ¬ y = (2 : Int32) then (if ¬ y = (3 : Int32) then (if ¬ y = (4 : Int32) then (if ¬ y = (5 : Int32) then (if ¬ y = (6 : Int32) then p_say 4411424 else p_say 5198368) else p_say 1481593376) else p_say 1095648288) else p_say 91544059134252) else p_say 1398096416) else p_say 71761439768876) else p_say 71761456546092
/-- what stays while the model writes, and the numbers -/
def pEm (σ0 : fv_S) (E : Nat → List Nat) (a i : Int32) : Prop := fv_gi σ0 60 = i ∧ (¬ i = 0 → p_hD E (fv_gi σ0 62)) ∧
  (∃ k, k < 65536 ∧ (p_m σ0 (fv_gi σ0 64) ||| (p_m σ0 (fv_gi σ0 64 + 1) <<< (8 : Int32))) = Int32.ofNat k ∧ E 0 = p_dN k) ∧
  (∃ k, k < 256 ∧ p_m σ0 (fv_gi σ0 64) = Int32.ofNat k ∧ E 1 = p_dN k) ∧
  (∃ k, k < 65536 ∧ ((a + fv_gi σ0 63) + p_se (p_m σ0 (fv_gi σ0 64))) &&& 65535 = Int32.ofNat k ∧ E 2 = p_dN k)
theorem u_oc {σ0 : fv_S} {E : Nat → List Nat} {a i : Int32} (n : Nat) (h : pEm σ0 E a i) (r : Int32) : pU σ0 E (fun σ => zX8_octetName (n + 10) r σ) (p_tOc i r) := by
  unfold zX8_octetName zX8_octetName_75 p_tOc
  repeat (first | with_reducible apply u_i | exact u_w (u_one σ0 E 65 (by decide)) | exact u_w (u_one σ0 E 76 (by decide)) | exact u_w (u_one σ0 E 72 (by decide)) | exact u_w (u_one σ0 E 69 (by decide)) | exact u_w (u_one σ0 E 68 (by decide)) | exact u_w (u_one σ0 E 67 (by decide)) | exact u_w (u_one σ0 E 66 (by decide)) | exact u_w (u_pl n h.1 rfl h.2.1))
theorem u_pa {σ0 : fv_S} {E : Nat → List Nat} {a i : Int32} (n : Nat) (h : pEm σ0 E a i) (p s : Int32) : pU σ0 E (fun σ => zX8_pairName (n + 10) p s σ) (p_tPa i p s) := by
  unfold zX8_pairName zX8_pairName_47 p_tPa
  repeat (first | with_reducible apply u_i | with_reducible exact u_w (u_say σ0 E n _ (by decide)) | exact u_w (u_ix n h.1))
theorem u_co (σ0 : fv_S) (E : Nat → List Nat) (n : Nat) (c : Int32) : pU σ0 E (fun σ => zX8_conditionName (n + 10) c σ) (p_tCo c) := by
  unfold zX8_conditionName zX8_conditionName_81 p_tCo
  repeat (first | with_reducible apply u_i | with_reducible exact u_w (u_say σ0 E n _ (by decide)))
theorem u_su (σ0 : fv_S) (E : Nat → List Nat) (n : Nat) (y : Int32) : pU σ0 E (fun σ => zX8_sumName (n + 10) y σ) (p_tSu y) := by
  unfold zX8_sumName zX8_sumName_81 p_tSu
  repeat (first | with_reducible apply u_i | with_reducible exact u_w (u_say σ0 E n _ (by decide)))
theorem s_pm {σ0 σ : fv_S} (s : pSm σ0 σ) (a : Int32) : p_m σ a = p_m σ0 a := by
  show fv_gw σ 13 _ = fv_gw σ0 13 _
  rw [s.2.1 13 (by omega)]
theorem u_m {σ0 : fv_S} {E : Nat → List Nat} {a i : Int32} (n : Nat) (h : pEm σ0 E a i) : pU σ0 E (fun σ => zX8_m (n + 10) σ) [1000] := by
  obtain ⟨_, _, ⟨k, hk, e, hE⟩, _⟩ := h
  refine u_c (g := fun σ => fv_bv (zX8_number (n + 10) (Int32.ofNat k) σ) (fun σ1 => fv_rv σ1) fv_no) ?_ (u_w (u_num0 σ0 E n (j := 0) rfl hk hE))
  intro σ s
  unfold zX8_m zX8_wide
  rw [m_pk, fv_bi_ri, m_pk, fv_bi_ri, fv_bi_ri, s_pm s, s_pm s, s.1 64 (by omega), e]
theorem u_n {σ0 : fv_S} {E : Nat → List Nat} {a i : Int32} (n : Nat) (h : pEm σ0 E a i) : pU σ0 E (fun σ => zX8_n (n + 10) σ) [1001] := by
  obtain ⟨_, _, _, ⟨k, hk, e, hE⟩, _⟩ := h
  refine u_c (g := fun σ => fv_bv (zX8_number (n + 10) (Int32.ofNat k) σ) (fun σ1 => fv_rv σ1) fv_no) ?_ (u_w (u_num0 σ0 E n (j := 1) rfl (by omega) hE))
  intro σ s
  unfold zX8_n
  rw [m_pk, fv_bi_ri, s_pm s, s.1 64 (by omega), e]
theorem u_near {σ0 : fv_S} {E : Nat → List Nat} {a i : Int32} (n : Nat) (h : pEm σ0 E a i) : pU σ0 E (fun σ => zX8_near (n + 10) a σ) [1002] := by
  obtain ⟨_, _, _, ⟨k8, hk8, e8, _⟩, ⟨k, hk, e, hE⟩⟩ := h
  refine u_c (g := fun σ => fv_bv (zX8_number (n + 10) (Int32.ofNat k) σ) (fun σ1 => fv_rv σ1) fv_no) ?_ (u_w (u_num0 σ0 E n (j := 2) rfl hk hE))
  intro σ s
  unfold zX8_near
  rw [m_pk, fv_bi_ri, s_pm s, s.1 64 (by omega), m_signed (by rw [e8]; exact p_ofN k8 hk8), fv_bi_ri, s.1 63 (by omega), e]
theorem u_pm {σ0 : fv_S} {E : Nat → List Nat} {a i : Int32} (n : Nat) (h : pEm σ0 E a i) : pU σ0 E (fun σ => zX8_placeM (n + 10) σ) ([40] ++ ([1000] ++ [41])) := by
  unfold zX8_placeM
  exact u_b (u_one σ0 E 40 (by decide)) (u_b (u_m n h) (u_w (u_one σ0 E 41 (by decide))))
