set_option maxRecDepth 100000
set_option maxHeartbeats 4000000
abbrev fx_dec (cc : ByteArray) (pc : Nat) (i : Instr) (n pc' : Nat) : Prop := decode cc pc = .ok (i, n) ∧ pc + n = pc'
abbrev fx_jmp (cc : ByteArray) (pc : Nat) (i : Instr) (off : Int) (t pc' : Nat) : Prop := decode cc pc = .ok (i, 3) ∧ (pc : Int) + off = (t : Int) ∧ pc + 3 = pc'
def fx_ck (cc : ByteArray) (l : List (Nat × Instr × Nat)) : Bool := l.all fun e => decide (decode cc e.1 = .ok (e.2.1, e.2.2))
theorem fx_ckat {cc : ByteArray} {l : List (Nat × Instr × Nat)} (h : fx_ck cc l = true) (i : Nat) {pc n : Nat} {x : Instr} (hi : l[i]? = some (pc, x, n)) : decode cc pc = .ok (x, n) := by
  have := List.all_eq_true.mp h _ (List.mem_of_getElem? hi)
  simpa using this
