set_option maxRecDepth 100000
set_option maxHeartbeats 4000000
/-! The plain law: forms against the model's encoding. -/
theorem e_cws : ∀ w, w < 67 → e_cw w = true := by
  intro w hw
  match w, hw with
  | 0, _ => exact e_w0
  | 1, _ => exact e_w1
  | 2, _ => exact e_w2
  | 3, _ => exact e_w3
  | 4, _ => exact e_w4
  | 5, _ => exact e_w5
  | 6, _ => exact e_w6
  | 7, _ => exact e_w7
  | 8, _ => exact e_w8
  | 9, _ => exact e_w9
  | 10, _ => exact e_w10
  | 11, _ => exact e_w11
  | 12, _ => exact e_w12
  | 13, _ => exact e_w13
  | 14, _ => exact e_w14
  | 15, _ => exact e_w15
  | 16, _ => exact e_w16
  | 17, _ => exact e_w17
  | 18, _ => exact e_w18
  | 19, _ => exact e_w19
  | 20, _ => exact e_w20
  | 21, _ => exact e_w21
  | 22, _ => exact e_w22
  | 23, _ => exact e_w23
  | 24, _ => exact e_w24
  | 25, _ => exact e_w25
  | 26, _ => exact e_w26
  | 27, _ => exact e_w27
  | 28, _ => exact e_w28
  | 29, _ => exact e_w29
  | 30, _ => exact e_w30
  | 31, _ => exact e_w31
  | 32, _ => exact e_w32
  | 33, _ => exact e_w33
  | 34, _ => exact e_w34
  | 35, _ => exact e_w35
  | 36, _ => exact e_w36
  | 37, _ => exact e_w37
  | 38, _ => exact e_w38
  | 39, _ => exact e_w39
  | 40, _ => exact e_w40
  | 41, _ => exact e_w41
  | 42, _ => exact e_w42
  | 43, _ => exact e_w43
  | 44, _ => exact e_w44
  | 45, _ => exact e_w45
  | 46, _ => exact e_w46
  | 47, _ => exact e_w47
  | 48, _ => exact e_w48
  | 49, _ => exact e_w49
  | 50, _ => exact e_w50
  | 51, _ => exact e_w51
  | 52, _ => exact e_w52
  | 53, _ => exact e_w53
  | 54, _ => exact e_w54
  | 55, _ => exact e_w55
  | 56, _ => exact e_w56
  | 57, _ => exact e_w57
  | 58, _ => exact e_w58
  | 59, _ => exact e_w59
  | 60, _ => exact e_w60
  | 61, _ => exact e_w61
  | 62, _ => exact e_w62
  | 63, _ => exact e_w63
  | 64, _ => exact e_w64
  | 65, _ => exact e_w65
  | 66, _ => exact e_w66
  | w + 67, h => exact absurd h (by omega)
theorem e_find (w c0 j0 c1 j1 : Nat) (any : Bool) (u : Nat) : p_TL.find? (qfp w c0 j0 c1 j1 any u) = e_fd (e_W w) c0 j0 c1 j1 any u := by
  unfold e_fd e_W
  rw [List.find?_filter]
  congr 1
  funext f
  unfold qfp
  cases Nat.beq f.2.2.1 w <;> cases (qft c0 j0 any u f.2.2.2.1 f.2.2.2.2.1 && qft c1 j1 any u f.2.2.2.2.2.1 f.2.2.2.2.2.2) <;> rfl
theorem e_k11 : p_TL.all (fun f => !Nat.beq (e_pk f.2.2.1) 0 || ((Nat.ble f.2.2.2.1 10 || Nat.beq f.2.2.2.1 14) && (Nat.ble f.2.2.2.2.2.1 10 || Nat.beq f.2.2.2.2.2.1 14))) = true := by decide +kernel
theorem e_fdu {w : Nat} (hw : e_pk w = 0) (c0 j0 c1 j1 : Nat) (any any' : Bool) (u u' : Nat) : e_fd (e_W w) c0 j0 c1 j1 any u = e_fd (e_W w) c0 j0 c1 j1 any' u' := by
  have key : ∀ l : List p_F, (∀ f ∈ l, (f.2.2.2.1 ≤ 10 ∨ f.2.2.2.1 = 14) ∧ (f.2.2.2.2.2.1 ≤ 10 ∨ f.2.2.2.2.2.1 = 14)) → e_fd l c0 j0 c1 j1 any u = e_fd l c0 j0 c1 j1 any' u' := by
    intro l
    induction l with
    | nil => intro _; rfl
    | cons f t ih =>
      intro h
      have hf := h f (List.mem_cons_self ..)
      have e : (qft c0 j0 any u f.2.2.2.1 f.2.2.2.2.1 && qft c1 j1 any u f.2.2.2.2.2.1 f.2.2.2.2.2.2) = (qft c0 j0 any' u' f.2.2.2.1 f.2.2.2.2.1 && qft c1 j1 any' u' f.2.2.2.2.2.1 f.2.2.2.2.2.2) := by rw [qft_u hf.1 any any' u u', qft_u hf.2 any any' u u']
      unfold e_fd
      rw [List.find?_cons, List.find?_cons, e]
      have t' := ih (fun g hg => h g (List.mem_cons_of_mem _ hg))
      unfold e_fd at t'
      rw [t']
  apply key
  intro f hf
  unfold e_W at hf
  rw [List.mem_filter] at hf
  have h1 := List.all_eq_true.1 e_k11 f hf.1
  have h2 : f.2.2.1 = w := nb_t.1 hf.2
  rw [h2, hw] at h1
  have h1 : ((Nat.ble f.2.2.2.1 10 || Nat.beq f.2.2.2.1 14) && (Nat.ble f.2.2.2.2.2.1 10 || Nat.beq f.2.2.2.2.2.1 14)) = true := h1
  rw [Bool.and_eq_true, Bool.or_eq_true, Bool.or_eq_true, nb_t, nb_t, Nat.ble_eq, Nat.ble_eq] at h1
  exact h1
/-- what a form found tells -/
def eG (w c0 c1 : Nat) (f : p_F) : Prop := (e_pk w ≠ 0 → c0 = 6 ∧ e_bk f.2.2.2.1 = 0) ∧ (c0 = 4 → f.2.2.2.1 = 10) ∧ (c1 = 4 → f.2.2.2.2.2.1 = 10) ∧ (f.2.2.2.1 = 10 → (c0 = 3 ∨ c0 = 4) ∧ f.2.2.2.2.2.1 ≠ 10) ∧ (f.2.2.2.2.2.1 = 10 → c1 = 3 ∨ c1 = 4) ∧ (e_bk f.2.2.2.1 ≠ 0 → (c0 = 5 ∨ c0 = 6) ∧ e_bk f.2.2.2.2.2.1 = 0) ∧ (e_bk f.2.2.2.2.2.1 ≠ 0 → c1 = 5 ∨ c1 = 6) ∧ (c1 = 5 ∨ c1 = 6 → e_bk f.2.2.2.2.2.1 ≠ 0) ∧ ((c0 = 5 ∨ c0 = 6) → e_pk w = 0 → e_bk f.2.2.2.1 ≠ 0) ∧ (f.1 = 1 ∨ f.1 = 2 → f.2.2.2.1 ≠ 10 ∧ f.2.2.2.2.2.1 ≠ 10) ∧ (5 ≤ f.1 → f.2.2.2.1 = 10 ∨ f.2.2.2.2.2.1 = 10) ∧ f.1 ≤ 6 ∧ f.2.1 ≤ 255
/-- the model holds a form -/
def eE (w : Nat) (f : p_F) (s : fv_S) : Prop := fv_gi s 29 = Int32.ofNat (e_fr f.1) ∧ fv_gi s 30 = Int32.ofNat (e_mi f.1) ∧ fv_gi s 32 = Int32.ofNat (e_bk f.2.2.2.1 + e_bk f.2.2.2.2.2.1) ∧ fv_gi s 34 = Int32.ofNat (e_pk w) ∧ fv_gi s 36 = (if f.2.2.2.1 = 10 then 0 else if f.2.2.2.2.2.1 = 10 then 1 else -1) ∧ (e_pk w ≠ 0 → fv_gi s 35 = 0)
theorem e_imt {a b : Bool} (h : e_im a b = true) (ha : a = true) : b = true := by
  rw [ha] at h; exact h
theorem nb_n {a b : Nat} (h : a ≠ b) : (!Nat.beq a b) = true := by rw [nb_f h]; rfl
theorem nb_m {a b : Nat} (h : (!Nat.beq a b) = true) : a ≠ b := fun e => by rw [nb_t.2 e] at h; exact absurd h (by decide)
theorem b_or {a b : Bool} {P Q : Prop} (h1 : a = true ↔ P) (h2 : b = true ↔ Q) : (a || b) = true ↔ P ∨ Q := by rw [Bool.or_eq_true, h1, h2]
theorem e_c1p {w c0 c1 : Nat} {f : p_F} {s : fv_S} (h : e_c1 w c0 c1 f s = true) : eE w f s ∧ eG w c0 c1 f := by
  unfold e_c1 at h
  simp only [Bool.and_eq_true] at h
  obtain ⟨a1, a2, a3, a4, a5, a6, a7, a8, a9, a10, a11, a12, a13, a14, a15, a16, a17, a18⟩ := h
  have o56 : ∀ c : Nat, (Nat.beq c 5 || Nat.beq c 6) = true ↔ c = 5 ∨ c = 6 := fun c => b_or nb_t nb_t
  have o34 : ∀ c : Nat, (Nat.beq c 3 || Nat.beq c 4) = true ↔ c = 3 ∨ c = 4 := fun c => b_or nb_t nb_t
  have ix : e_ix f = true ↔ f.2.2.2.1 = 10 ∨ f.2.2.2.2.2.1 = 10 := b_or nb_t nb_t
  refine ⟨⟨of_decide_eq_true a1, of_decide_eq_true a2, of_decide_eq_true a3, of_decide_eq_true a4, of_decide_eq_true a5, fun hp => ?_⟩, fun hp => ?_, fun hp => nb_t.1 (e_imt a7 (nb_t.2 hp)), fun hp => nb_t.1 (e_imt a8 (nb_t.2 hp)), fun hp => ?_, fun hp => (o34 c1).1 (e_imt a10 (nb_t.2 hp)), fun hp => ?_, fun hp => (o56 c1).1 (e_imt a12 (nb_n hp)), fun hp => nb_m (e_imt a13 ((o56 c1).2 hp)), fun hp hq => ?_, fun hp => ?_, fun hp => ix.1 (e_imt a16 (by rw [Nat.ble_eq]; exact hp)), by rw [Nat.ble_eq] at a17; exact a17, by rw [Nat.ble_eq] at a18; exact a18⟩
  · have := e_imt a6 (nb_n hp)
    rw [Bool.and_eq_true, Bool.and_eq_true] at this
    exact of_decide_eq_true this.1.1
  · have := e_imt a6 (nb_n hp)
    rw [Bool.and_eq_true, Bool.and_eq_true] at this
    exact ⟨nb_t.1 this.1.2, nb_t.1 this.2⟩
  · have := e_imt a9 (nb_t.2 hp)
    rw [Bool.and_eq_true] at this
    exact ⟨(o34 c0).1 this.1, nb_m this.2⟩
  · have := e_imt a11 (nb_n hp)
    rw [Bool.and_eq_true] at this
    exact ⟨(o56 c0).1 this.1, nb_t.1 this.2⟩
  · exact nb_m (e_imt a14 (by rw [Bool.and_eq_true]; exact ⟨(o56 c0).2 hp, nb_t.2 hq⟩))
  · have := e_imt a15 ((b_or nb_t nb_t).2 hp)
    have n : ¬ (f.2.2.2.1 = 10 ∨ f.2.2.2.2.2.1 = 10) := fun e => by rw [ix.2 e] at this; exact absurd this (by decide)
    exact ⟨fun e => n (Or.inl e), fun e => n (Or.inr e)⟩
