set_option maxRecDepth 100000
set_option maxHeartbeats 4000000
/-! The plain law: forms against the model's encoding, a finite check. -/
def e_bk (k : Nat) : Nat := bif Nat.beq k 4 || Nat.beq k 8 then 1 else bif Nat.beq k 5 || Nat.beq k 7 then 2 else bif Nat.beq k 6 then 3 else 0
def e_bz (b : Nat) : Nat := bif Nat.beq b 3 then 1 else b
def e_fr (P : Nat) : Nat := bif Nat.beq P 3 || Nat.beq P 5 then 221 else bif Nat.beq P 4 || Nat.beq P 6 then 253 else 0
def e_mi (P : Nat) : Nat := bif Nat.beq P 2 then 237 else bif Nat.beq P 1 || Nat.ble 5 P then 203 else 0
def e_pk (w : Nat) : Nat := bif Nat.ble 42 w && Nat.ble w 44 then 1 else bif Nat.beq w 34 then 2 else bif Nat.beq w 48 then 3 else 0
def e_co (pk u : Nat) : Nat := bif Nat.beq pk 1 then 8 * u else bif Nat.beq pk 2 then u else bif Nat.beq pk 3 then (bif Nat.beq u 0 then 0 else 8 * (u + 1)) else 0
/-- which numbers a word takes as a part of its octet -/
def e_us (pk : Nat) : List Nat := bif Nat.beq pk 1 then [0, 1, 2, 3, 4, 5, 6, 7] else bif Nat.beq pk 2 then [0, 8, 16, 24, 32, 40, 48, 56] else bif Nat.beq pk 3 then [0, 1, 2] else [0]
def e_ix (f : p_F) : Bool := Nat.beq f.2.2.2.1 10 || Nat.beq f.2.2.2.2.2.1 10
def e_sz (f : p_F) : Nat := (bif Nat.beq f.1 0 then 1 else bif Nat.ble 5 f.1 then 3 else 2) + (bif e_ix f then 1 else 0) + e_bz (e_bk f.2.2.2.1) + e_bz (e_bk f.2.2.2.2.2.1)
def e_im (a b : Bool) : Bool := !a || b
/-- a form agrees with what the model makes, but for the number within the octet -/
noncomputable def e_c1 (w c0 c1 : Nat) (f : p_F) (s : fv_S) : Bool :=
  decide (fv_gi s 29 = Int32.ofNat (e_fr f.1)) && (decide (fv_gi s 30 = Int32.ofNat (e_mi f.1)) && (decide (fv_gi s 32 = Int32.ofNat (e_bk f.2.2.2.1 + e_bk f.2.2.2.2.2.1)) && (decide (fv_gi s 34 = Int32.ofNat (e_pk w)) &&
  (decide (fv_gi s 36 = if f.2.2.2.1 = 10 then 0 else if f.2.2.2.2.2.1 = 10 then 1 else -1) &&
  (e_im (!Nat.beq (e_pk w) 0) (decide (fv_gi s 35 = 0) && Nat.beq c0 6 && Nat.beq (e_bk f.2.2.2.1) 0) &&
  (e_im (Nat.beq c0 4) (Nat.beq f.2.2.2.1 10) && (e_im (Nat.beq c1 4) (Nat.beq f.2.2.2.2.2.1 10) &&
  (e_im (Nat.beq f.2.2.2.1 10) ((Nat.beq c0 3 || Nat.beq c0 4) && !Nat.beq f.2.2.2.2.2.1 10) && (e_im (Nat.beq f.2.2.2.2.2.1 10) (Nat.beq c1 3 || Nat.beq c1 4) &&
  (e_im (!Nat.beq (e_bk f.2.2.2.1) 0) ((Nat.beq c0 5 || Nat.beq c0 6) && Nat.beq (e_bk f.2.2.2.2.2.1) 0) && (e_im (!Nat.beq (e_bk f.2.2.2.2.2.1) 0) (Nat.beq c1 5 || Nat.beq c1 6) &&
  (e_im (Nat.beq c1 5 || Nat.beq c1 6) (!Nat.beq (e_bk f.2.2.2.2.2.1) 0) && (e_im ((Nat.beq c0 5 || Nat.beq c0 6) && Nat.beq (e_pk w) 0) (!Nat.beq (e_bk f.2.2.2.1) 0) &&
  (e_im (Nat.beq f.1 1 || Nat.beq f.1 2) (!e_ix f) && (e_im (Nat.ble 5 f.1) (e_ix f) && (Nat.ble f.1 6 && Nat.ble f.2.1 255))))))))))))))))
noncomputable def e_c2 (w u : Nat) (f : p_F) (s : fv_S) : Bool := decide (fv_gi s 31 + Int32.ofNat (e_co (e_pk w) u) = Int32.ofNat f.2.1)
def e_fd (l : List p_F) (c0 j0 c1 j1 : Nat) (any : Bool) (u : Nat) : Option p_F := l.find? (fun f => qft c0 j0 any u f.2.2.2.1 f.2.2.2.2.1 && qft c1 j1 any u f.2.2.2.2.2.1 f.2.2.2.2.2.2)
def e_W (w : Nat) : List p_F := p_TL.filter (fun f => Nat.beq f.2.2.1 w)
noncomputable def e_ck (l : List p_F) (w m c0 j0 c1 j1 : Nat) : Bool := match e_rs w m c0 j0 c1 j1 with
  | some (.inl (some (.inl v)), s) => bif decide (v = 1) then
      (match e_fd l c0 j0 c1 j1 true 0 with
      | some f => e_c1 w c0 c1 f s && (e_us (e_pk w)).all (fun u => match e_fd l c0 j0 c1 j1 false u with
          | some g => e_c1 w c0 c1 g s && e_c2 w u g s && Nat.beq (e_sz g) (e_sz f)
          | none => false)
      | none => false)
    else decide (v = 0) && (e_fd l c0 j0 c1 j1 true 0).isNone
  | _ => false
noncomputable def e_cw (w : Nat) : Bool := e_ck (e_W w) w 0 0 0 0 0 && (e_D.all (fun d => e_ck (e_W w) w 1 d.1 d.2 0 0) && e_D.all (fun d => e_D.all (fun e => e_ck (e_W w) w 2 d.1 d.2 e.1 e.2)))
