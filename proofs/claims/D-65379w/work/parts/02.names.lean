set_option maxRecDepth 100000
def RX0 : String := "OpcodeForge"
def TX0 : u_T := fun k => match k with
  | 0 => ("OpcodeForge", "words", "LOpcodeForge$Words;", true)
  | 1 => ("OpcodeForge", "forms", "LOpcodeForge$Forms;", true)
  | 2 => ("OpcodeForge", "assembler", "LOpcodeForge$Assembler;", true)
  | 3 => ("OpcodeForge", "source", "LOpcodeForge$Tokens;", true)
  | 4 => ("OpcodeForge", "writer", "LOpcodeForge$Writer;", true)
  | 5 => ("OpcodeForge", "lister", "LOpcodeForge$Writer;", true)
  | 6 => ("OpcodeForge", "machine", "LOpcodeForge$Machine;", true)
  | 7 => ("OpcodeForge", "labels", "LOpcodeForge$Labels;", true)
  | 8 => ("OpcodeForge", "draft", "[B", true)
  | 9 => ("OpcodeForge", "faultLine", "I", false)
  | 10 => ("OpcodeForge", "faultPlace", "I", false)
  | 11 => ("OpcodeForge", "lines", "I", false)
  | 12 => ("OpcodeForge", "firstAt", "I", false)
  | 13 => ("OpcodeForge", "behind", "I", false)
  | _ => ("OpcodeForge", "draftSize", "I", false)
def tyX0 : Nat → FieldType := fun k => match k with
  | 0 => .object "OpcodeForge$Words"
  | 1 => .object "OpcodeForge$Forms"
  | 2 => .object "OpcodeForge$Assembler"
  | 3 => .object "OpcodeForge$Tokens"
  | 4 => .object "OpcodeForge$Writer"
  | 5 => .object "OpcodeForge$Writer"
  | 6 => .object "OpcodeForge$Machine"
  | 7 => .object "OpcodeForge$Labels"
  | 8 => .array .byte
  | 9 => .int
  | 10 => .int
  | 11 => .int
  | 12 => .int
  | 13 => .int
  | _ => .int
abbrev wsX00 : List Cond := u_ws RX0 TX0 15
theorem nmX0 : ∀ a, a < 15 → ∀ b, b < 15 → a ≠ b → (TX0 a).2.1 ≠ (TX0 b).2.1 := by decide +kernel
theorem tyX0_ok : ∀ k, k < 15 → parseFieldDescriptor (TX0 k).2.2.1 = some (tyX0 k) := by decide +kernel
abbrev cX0_init : ByteArray := prog_1_method_2_code
def yX0_init : MethodName := ⟨RX0, "<init>", "()V"⟩
abbrev cX0_feed : ByteArray := prog_1_method_3_code
def yX0_feed : MethodName := ⟨RX0, "feed", "(JI)I"⟩
abbrev cX0_isIn : ByteArray := prog_1_method_1_code
def yX0_isIn : MethodName := ⟨RX0, "isIn", "(JJJ)Z"⟩
abbrev cX0_forge : ByteArray := prog_1_method_4_code
def yX0_forge : MethodName := ⟨RX0, "forge", "()I"⟩
abbrev cX0_told : ByteArray := prog_1_method_5_code
def yX0_told : MethodName := ⟨RX0, "told", "(I)I"⟩
abbrev cX0_label : ByteArray := prog_1_method_6_code
def yX0_label : MethodName := ⟨RX0, "label", "(I)I"⟩
abbrev cX0_labelSign : ByteArray := prog_1_method_7_code
def yX0_labelSign : MethodName := ⟨RX0, "labelSign", "(II)I"⟩
abbrev cX0_write : ByteArray := prog_1_method_8_code
def yX0_write : MethodName := ⟨RX0, "write", "(I)I"⟩
abbrev cX0_sign : ByteArray := prog_1_method_9_code
def yX0_sign : MethodName := ⟨RX0, "sign", "(I)I"⟩
abbrev cX0_source : ByteArray := prog_1_method_11_code
def yX0_source : MethodName := ⟨RX0, "source", "(II)I"⟩
abbrev cX0_draftLine : ByteArray := prog_1_method_10_code
def yX0_draftLine : MethodName := ⟨RX0, "draftLine", "()V"⟩
abbrev cX0_sourceAt : ByteArray := prog_1_method_12_code
def yX0_sourceAt : MethodName := ⟨RX0, "sourceAt", "(I)I"⟩
abbrev cX0_octet : ByteArray := prog_1_method_13_code
def yX0_octet : MethodName := ⟨RX0, "octet", "(I)I"⟩
abbrev cX0_put : ByteArray := prog_1_method_14_code
def yX0_put : MethodName := ⟨RX0, "put", "(II)I"⟩
abbrev cX0_register : ByteArray := prog_1_method_17_code
def yX0_register : MethodName := ⟨RX0, "register", "(I)I"⟩
abbrev cX0_otherPair : ByteArray := prog_1_method_15_code
def yX0_otherPair : MethodName := ⟨RX0, "otherPair", "(I)I"⟩
abbrev cX0_set : ByteArray := prog_1_method_19_code
def yX0_set : MethodName := ⟨RX0, "set", "(II)I"⟩
abbrev cX0_setRegister : ByteArray := prog_1_method_18_code
def yX0_setRegister : MethodName := ⟨RX0, "setRegister", "(II)V"⟩
abbrev cX0_setOtherPair : ByteArray := prog_1_method_16_code
def yX0_setOtherPair : MethodName := ⟨RX0, "setOtherPair", "(II)V"⟩
abbrev cX0_port : ByteArray := prog_1_method_20_code
def yX0_port : MethodName := ⟨RX0, "port", "(II)I"⟩
abbrev cX0_out : ByteArray := prog_1_method_21_code
def yX0_out : MethodName := ⟨RX0, "out", "(I)I"⟩
abbrev cX0_request : ByteArray := prog_1_method_22_code
def yX0_request : MethodName := ⟨RX0, "request", "(II)I"⟩
abbrev cX0_step : ByteArray := prog_1_method_23_code
def yX0_step : MethodName := ⟨RX0, "step", "()I"⟩
abbrev cX0_run : ByteArray := prog_1_method_24_code
def yX0_run : MethodName := ⟨RX0, "run", "(I)I"⟩
abbrev cX0_outs : ByteArray := prog_1_method_25_code
def yX0_outs : MethodName := ⟨RX0, "outs", "()J"⟩
abbrev cX0_clear : ByteArray := prog_1_method_26_code
def yX0_clear : MethodName := ⟨RX0, "clear", "()V"⟩
theorem q264 : (Jvm.Cond.initialized "OpcodeForge") ∈ lw_all := lw_g (lw_at lw_m1 1 rfl) rfl
theorem q285 : (Jvm.Cond.instantiable "OpcodeForge" (15 : Nat)) ∈ lw_all := lw_g (lw_at lw_m1 22 rfl) rfl
theorem q287 : (Jvm.Cond.instanceMethod ({ cls := "OpcodeForge", name := "<init>", desc := "()V" } : Jvm.MethodName)) ∈ lw_all := lw_g (lw_at lw_m1 24 rfl) rfl
theorem q288 : (Jvm.Cond.code ({ cls := "OpcodeForge", name := "<init>", desc := "()V" } : Jvm.MethodName) prog_1_method_2_code (1 : Nat) (Option.none : Option Jvm.ClassFile.FieldType)) ∈ lw_all := lw_g (lw_at lw_m1 25 rfl) rfl
theorem q289 : (Jvm.Cond.methodLink "OpcodeForge" (1 : Nat) ({ cls := "java/lang/Object", name := "<init>", desc := "()V" } : Jvm.MethodName)) ∈ lw_all := lw_g (lw_at lw_m1 26 rfl) rfl
theorem q292 : (Jvm.Cond.classLink "OpcodeForge" (7 : Nat) "OpcodeForge$Words") ∈ lw_all := lw_g (lw_at lw_m1 29 rfl) rfl
theorem q294 : (Jvm.Cond.methodLinkNest "OpcodeForge" (9 : Nat) ({ cls := "OpcodeForge$Words", name := "<init>", desc := "()V" } : Jvm.MethodName) "OpcodeForge") ∈ lw_tbl := lw_at lw_m1 31 rfl
theorem q405 : (Jvm.Cond.classLink "OpcodeForge" (16 : Nat) "OpcodeForge$Forms") ∈ lw_all := lw_g (lw_at lw_m1 142 rfl) rfl
theorem q407 : (Jvm.Cond.methodLink "OpcodeForge" (18 : Nat) ({ cls := "OpcodeForge$Forms", name := "<init>", desc := "()V" } : Jvm.MethodName)) ∈ lw_all := lw_g (lw_at lw_m1 144 rfl) rfl
theorem q524 : (Jvm.Cond.classLink "OpcodeForge" (23 : Nat) "OpcodeForge$Assembler") ∈ lw_all := lw_g (lw_at lw_m2 21 rfl) rfl
theorem q526 : (Jvm.Cond.methodLink "OpcodeForge" (25 : Nat) ({ cls := "OpcodeForge$Assembler", name := "<init>", desc := "(LOpcodeForge$Words;LOpcodeForge$Forms;)V" } : Jvm.MethodName)) ∈ lw_all := lw_g (lw_at lw_m2 23 rfl) rfl
theorem q537 : (Jvm.Cond.fieldLinkNest "OpcodeForge" (81 : Nat) "OpcodeForge$Tokens" "row" "[B" "OpcodeForge") ∈ lw_tbl := lw_at lw_m2 34 rfl
theorem q540 : (Jvm.Cond.fieldLinkNest "OpcodeForge" (75 : Nat) "OpcodeForge$Tokens" "size" "I" "OpcodeForge") ∈ lw_tbl := lw_at lw_m2 37 rfl
theorem q582 : (Jvm.Cond.fieldLinkNest "OpcodeForge" (149 : Nat) "OpcodeForge$Labels" "signs" "[B" "OpcodeForge") ∈ lw_tbl := lw_at lw_m2 79 rfl
theorem q584 : (Jvm.Cond.fieldLinkNest "OpcodeForge" (146 : Nat) "OpcodeForge$Labels" "lengths" "[I" "OpcodeForge") ∈ lw_tbl := lw_at lw_m2 81 rfl
theorem q587 : (Jvm.Cond.fieldLinkNest "OpcodeForge" (142 : Nat) "OpcodeForge$Labels" "values" "[I" "OpcodeForge") ∈ lw_tbl := lw_at lw_m2 84 rfl
theorem q589 : (Jvm.Cond.fieldLinkNest "OpcodeForge" (139 : Nat) "OpcodeForge$Labels" "count" "I" "OpcodeForge") ∈ lw_tbl := lw_at lw_m2 86 rfl
theorem q604 : (Jvm.Cond.fieldLinkNest "OpcodeForge" (32 : Nat) "OpcodeForge$Assembler" "t" "LOpcodeForge$Tokens;" "OpcodeForge") ∈ lw_tbl := lw_at lw_m2 101 rfl
theorem q606 : (Jvm.Cond.fieldLinkNest "OpcodeForge" (123 : Nat) "OpcodeForge$Assembler" "labels" "LOpcodeForge$Labels;" "OpcodeForge") ∈ lw_tbl := lw_at lw_m2 103 rfl
theorem q608 : (Jvm.Cond.fieldLinkNest "OpcodeForge" (128 : Nat) "OpcodeForge$Assembler" "memory" "[B" "OpcodeForge") ∈ lw_tbl := lw_at lw_m2 105 rfl
theorem q611 : (Jvm.Cond.fieldLinkNest "OpcodeForge" (117 : Nat) "OpcodeForge$Assembler" "here" "I" "OpcodeForge") ∈ lw_tbl := lw_at lw_m2 108 rfl
theorem q613 : (Jvm.Cond.fieldLinkNest "OpcodeForge" (93 : Nat) "OpcodeForge$Assembler" "line" "I" "OpcodeForge") ∈ lw_tbl := lw_at lw_m2 110 rfl
theorem q615 : (Jvm.Cond.fieldLinkNest "OpcodeForge" (136 : Nat) "OpcodeForge$Assembler" "many" "I" "OpcodeForge") ∈ lw_tbl := lw_at lw_m2 112 rfl
theorem q617 : (Jvm.Cond.fieldLinkNest "OpcodeForge" (111 : Nat) "OpcodeForge$Assembler" "first" "I" "OpcodeForge") ∈ lw_tbl := lw_at lw_m2 114 rfl
theorem q700 : (Jvm.Cond.classLink "OpcodeForge" (39 : Nat) "OpcodeForge$Writer") ∈ lw_all := lw_g (lw_at lw_m2 197 rfl) rfl
theorem q702 : (Jvm.Cond.methodLink "OpcodeForge" (41 : Nat) ({ cls := "OpcodeForge$Writer", name := "<init>", desc := "(LOpcodeForge$Words;LOpcodeForge$Forms;)V" } : Jvm.MethodName)) ∈ lw_all := lw_g (lw_at lw_m2 199 rfl) rfl
theorem q707 : (Jvm.Cond.fieldLinkNest "OpcodeForge" (159 : Nat) "OpcodeForge$Writer" "signs" "[B" "OpcodeForge") ∈ lw_tbl := lw_at lw_m2 204 rfl
theorem q709 : (Jvm.Cond.fieldLinkNest "OpcodeForge" (158 : Nat) "OpcodeForge$Writer" "size" "I" "OpcodeForge") ∈ lw_tbl := lw_at lw_m2 206 rfl
theorem q721 : (Jvm.Cond.classLink "OpcodeForge" (49 : Nat) "OpcodeForge$Machine") ∈ lw_all := lw_g (lw_at lw_m2 218 rfl) rfl
theorem q723 : (Jvm.Cond.methodLink "OpcodeForge" (51 : Nat) ({ cls := "OpcodeForge$Machine", name := "<init>", desc := "(LOpcodeForge$Forms;)V" } : Jvm.MethodName)) ∈ lw_all := lw_g (lw_at lw_m2 220 rfl) rfl
theorem q731 : (Jvm.Cond.fieldLinkNest "OpcodeForge" (84 : Nat) "OpcodeForge$Machine" "memory" "[B" "OpcodeForge") ∈ lw_tbl := lw_at lw_m2 228 rfl
theorem q734 : (Jvm.Cond.fieldLinkNest "OpcodeForge" (189 : Nat) "OpcodeForge$Machine" "other" "[I" "OpcodeForge") ∈ lw_tbl := lw_at lw_m2 231 rfl
theorem q736 : (Jvm.Cond.fieldLinkNest "OpcodeForge" (198 : Nat) "OpcodeForge$Machine" "index" "[I" "OpcodeForge") ∈ lw_tbl := lw_at lw_m2 233 rfl
theorem q738 : (Jvm.Cond.fieldLinkNest "OpcodeForge" (201 : Nat) "OpcodeForge$Machine" "sp" "I" "OpcodeForge") ∈ lw_tbl := lw_at lw_m2 235 rfl
theorem q740 : (Jvm.Cond.fieldLinkNest "OpcodeForge" (204 : Nat) "OpcodeForge$Machine" "pc" "I" "OpcodeForge") ∈ lw_tbl := lw_at lw_m2 237 rfl
theorem q742 : (Jvm.Cond.fieldLinkNest "OpcodeForge" (207 : Nat) "OpcodeForge$Machine" "i" "I" "OpcodeForge") ∈ lw_tbl := lw_at lw_m2 239 rfl
theorem q744 : (Jvm.Cond.fieldLinkNest "OpcodeForge" (210 : Nat) "OpcodeForge$Machine" "refresh" "I" "OpcodeForge") ∈ lw_tbl := lw_at lw_m3 1 rfl
theorem q746 : (Jvm.Cond.fieldLinkNest "OpcodeForge" (213 : Nat) "OpcodeForge$Machine" "latch" "I" "OpcodeForge") ∈ lw_tbl := lw_at lw_m3 3 rfl
theorem q748 : (Jvm.Cond.fieldLinkNest "OpcodeForge" (216 : Nat) "OpcodeForge$Machine" "latch2" "I" "OpcodeForge") ∈ lw_tbl := lw_at lw_m3 5 rfl
theorem q750 : (Jvm.Cond.fieldLinkNest "OpcodeForge" (219 : Nat) "OpcodeForge$Machine" "mode" "I" "OpcodeForge") ∈ lw_tbl := lw_at lw_m3 7 rfl
theorem q752 : (Jvm.Cond.fieldLinkNest "OpcodeForge" (238 : Nat) "OpcodeForge$Machine" "ins" "[I" "OpcodeForge") ∈ lw_tbl := lw_at lw_m3 9 rfl
theorem q754 : (Jvm.Cond.fieldLinkNest "OpcodeForge" (241 : Nat) "OpcodeForge$Machine" "outs" "[I" "OpcodeForge") ∈ lw_tbl := lw_at lw_m3 11 rfl
theorem q756 : (Jvm.Cond.fieldLinkNest "OpcodeForge" (260 : Nat) "OpcodeForge$Machine" "outCount" "J" "OpcodeForge") ∈ lw_tbl := lw_at lw_m3 13 rfl
theorem q758 : (Jvm.Cond.fieldLinkNest "OpcodeForge" (244 : Nat) "OpcodeForge$Machine" "isPlain" "Z" "OpcodeForge") ∈ lw_tbl := lw_at lw_m3 15 rfl
theorem q760 : (Jvm.Cond.fieldLinkNest "OpcodeForge" (251 : Nat) "OpcodeForge$Machine" "vector" "I" "OpcodeForge") ∈ lw_tbl := lw_at lw_m3 17 rfl
theorem q762 : (Jvm.Cond.fieldLinkNest "OpcodeForge" (248 : Nat) "OpcodeForge$Machine" "isHard" "Z" "OpcodeForge") ∈ lw_tbl := lw_at lw_m3 19 rfl
theorem q803 : (Jvm.Cond.classLink "OpcodeForge" (58 : Nat) "OpcodeForge$Labels") ∈ lw_all := lw_g (lw_at lw_m3 60 rfl) rfl
theorem q804 : (Jvm.Cond.methodLinkNest "OpcodeForge" (60 : Nat) ({ cls := "OpcodeForge$Labels", name := "<init>", desc := "()V" } : Jvm.MethodName) "OpcodeForge") ∈ lw_tbl := lw_at lw_m3 61 rfl
theorem q805 : (Jvm.Cond.fieldLink "OpcodeForge" (10 : Nat) "OpcodeForge" "words" "LOpcodeForge$Words;") ∈ lw_all := lw_g (lw_at lw_m3 62 rfl) rfl
theorem q806 : (Jvm.Cond.fieldLink "OpcodeForge" (19 : Nat) "OpcodeForge" "forms" "LOpcodeForge$Forms;") ∈ lw_all := lw_g (lw_at lw_m3 63 rfl) rfl
theorem q807 : (Jvm.Cond.fieldLink "OpcodeForge" (28 : Nat) "OpcodeForge" "assembler" "LOpcodeForge$Assembler;") ∈ lw_all := lw_g (lw_at lw_m3 64 rfl) rfl
theorem q808 : (Jvm.Cond.fieldLink "OpcodeForge" (36 : Nat) "OpcodeForge" "source" "LOpcodeForge$Tokens;") ∈ lw_all := lw_g (lw_at lw_m3 65 rfl) rfl
theorem q809 : (Jvm.Cond.fieldLink "OpcodeForge" (42 : Nat) "OpcodeForge" "writer" "LOpcodeForge$Writer;") ∈ lw_all := lw_g (lw_at lw_m3 66 rfl) rfl
theorem q810 : (Jvm.Cond.fieldLink "OpcodeForge" (46 : Nat) "OpcodeForge" "lister" "LOpcodeForge$Writer;") ∈ lw_all := lw_g (lw_at lw_m3 67 rfl) rfl
theorem q811 : (Jvm.Cond.fieldLink "OpcodeForge" (54 : Nat) "OpcodeForge" "machine" "LOpcodeForge$Machine;") ∈ lw_all := lw_g (lw_at lw_m3 68 rfl) rfl
theorem q812 : (Jvm.Cond.fieldLink "OpcodeForge" (61 : Nat) "OpcodeForge" "labels" "LOpcodeForge$Labels;") ∈ lw_all := lw_g (lw_at lw_m3 69 rfl) rfl
theorem q813 : (Jvm.Cond.fieldLink "OpcodeForge" (65 : Nat) "OpcodeForge" "draft" "[B") ∈ lw_all := lw_g (lw_at lw_m3 70 rfl) rfl
theorem q814 : (Jvm.Cond.fieldLink "OpcodeForge" (96 : Nat) "OpcodeForge" "faultLine" "I") ∈ lw_all := lw_g (lw_at lw_m3 71 rfl) rfl
theorem q815 : (Jvm.Cond.fieldLink "OpcodeForge" (102 : Nat) "OpcodeForge" "faultPlace" "I") ∈ lw_all := lw_g (lw_at lw_m3 72 rfl) rfl
theorem q816 : (Jvm.Cond.fieldLink "OpcodeForge" (108 : Nat) "OpcodeForge" "lines" "I") ∈ lw_all := lw_g (lw_at lw_m3 73 rfl) rfl
theorem q817 : (Jvm.Cond.fieldLink "OpcodeForge" (114 : Nat) "OpcodeForge" "firstAt" "I") ∈ lw_all := lw_g (lw_at lw_m3 74 rfl) rfl
theorem q818 : (Jvm.Cond.fieldLink "OpcodeForge" (120 : Nat) "OpcodeForge" "behind" "I") ∈ lw_all := lw_g (lw_at lw_m3 75 rfl) rfl
theorem q819 : (Jvm.Cond.fieldLink "OpcodeForge" (160 : Nat) "OpcodeForge" "draftSize" "I") ∈ lw_all := lw_g (lw_at lw_m3 76 rfl) rfl
theorem q820 : (Jvm.Cond.laysFinal "OpcodeForge" "OpcodeForge" "words" "LOpcodeForge$Words;") ∈ lw_all := lw_g (lw_at lw_m3 77 rfl) rfl
theorem q821 : (Jvm.Cond.soleField "OpcodeForge" "words") ∈ lw_all := lw_g (lw_at lw_m3 78 rfl) rfl
theorem q822 : (Jvm.Cond.laysFinal "OpcodeForge" "OpcodeForge" "forms" "LOpcodeForge$Forms;") ∈ lw_all := lw_g (lw_at lw_m3 79 rfl) rfl
theorem q823 : (Jvm.Cond.soleField "OpcodeForge" "forms") ∈ lw_all := lw_g (lw_at lw_m3 80 rfl) rfl
theorem q824 : (Jvm.Cond.laysFinal "OpcodeForge" "OpcodeForge" "assembler" "LOpcodeForge$Assembler;") ∈ lw_all := lw_g (lw_at lw_m3 81 rfl) rfl
theorem q825 : (Jvm.Cond.soleField "OpcodeForge" "assembler") ∈ lw_all := lw_g (lw_at lw_m3 82 rfl) rfl
theorem q826 : (Jvm.Cond.laysFinal "OpcodeForge" "OpcodeForge" "source" "LOpcodeForge$Tokens;") ∈ lw_all := lw_g (lw_at lw_m3 83 rfl) rfl
theorem q827 : (Jvm.Cond.soleField "OpcodeForge" "source") ∈ lw_all := lw_g (lw_at lw_m3 84 rfl) rfl
theorem q828 : (Jvm.Cond.laysFinal "OpcodeForge" "OpcodeForge" "writer" "LOpcodeForge$Writer;") ∈ lw_all := lw_g (lw_at lw_m3 85 rfl) rfl
theorem q829 : (Jvm.Cond.soleField "OpcodeForge" "writer") ∈ lw_all := lw_g (lw_at lw_m3 86 rfl) rfl
theorem q830 : (Jvm.Cond.laysFinal "OpcodeForge" "OpcodeForge" "lister" "LOpcodeForge$Writer;") ∈ lw_all := lw_g (lw_at lw_m3 87 rfl) rfl
theorem q831 : (Jvm.Cond.soleField "OpcodeForge" "lister") ∈ lw_all := lw_g (lw_at lw_m3 88 rfl) rfl
theorem q832 : (Jvm.Cond.laysFinal "OpcodeForge" "OpcodeForge" "machine" "LOpcodeForge$Machine;") ∈ lw_all := lw_g (lw_at lw_m3 89 rfl) rfl
theorem q833 : (Jvm.Cond.soleField "OpcodeForge" "machine") ∈ lw_all := lw_g (lw_at lw_m3 90 rfl) rfl
theorem q834 : (Jvm.Cond.laysFinal "OpcodeForge" "OpcodeForge" "labels" "LOpcodeForge$Labels;") ∈ lw_all := lw_g (lw_at lw_m3 91 rfl) rfl
theorem q835 : (Jvm.Cond.soleField "OpcodeForge" "labels") ∈ lw_all := lw_g (lw_at lw_m3 92 rfl) rfl
theorem q836 : (Jvm.Cond.laysFinal "OpcodeForge" "OpcodeForge" "draft" "[B") ∈ lw_all := lw_g (lw_at lw_m3 93 rfl) rfl
theorem q837 : (Jvm.Cond.soleField "OpcodeForge" "draft") ∈ lw_all := lw_g (lw_at lw_m3 94 rfl) rfl
theorem q838 : (Jvm.Cond.lays "OpcodeForge" "OpcodeForge" "faultLine" "I") ∈ lw_all := lw_g (lw_at lw_m3 95 rfl) rfl
theorem q839 : (Jvm.Cond.soleField "OpcodeForge" "faultLine") ∈ lw_all := lw_g (lw_at lw_m3 96 rfl) rfl
theorem q840 : (Jvm.Cond.lays "OpcodeForge" "OpcodeForge" "faultPlace" "I") ∈ lw_all := lw_g (lw_at lw_m3 97 rfl) rfl
theorem q841 : (Jvm.Cond.soleField "OpcodeForge" "faultPlace") ∈ lw_all := lw_g (lw_at lw_m3 98 rfl) rfl
theorem q842 : (Jvm.Cond.lays "OpcodeForge" "OpcodeForge" "lines" "I") ∈ lw_all := lw_g (lw_at lw_m3 99 rfl) rfl
theorem q843 : (Jvm.Cond.soleField "OpcodeForge" "lines") ∈ lw_all := lw_g (lw_at lw_m3 100 rfl) rfl
theorem q844 : (Jvm.Cond.lays "OpcodeForge" "OpcodeForge" "firstAt" "I") ∈ lw_all := lw_g (lw_at lw_m3 101 rfl) rfl
theorem q845 : (Jvm.Cond.soleField "OpcodeForge" "firstAt") ∈ lw_all := lw_g (lw_at lw_m3 102 rfl) rfl
theorem q846 : (Jvm.Cond.lays "OpcodeForge" "OpcodeForge" "behind" "I") ∈ lw_all := lw_g (lw_at lw_m3 103 rfl) rfl
theorem q847 : (Jvm.Cond.soleField "OpcodeForge" "behind") ∈ lw_all := lw_g (lw_at lw_m3 104 rfl) rfl
theorem q848 : (Jvm.Cond.lays "OpcodeForge" "OpcodeForge" "draftSize" "I") ∈ lw_all := lw_g (lw_at lw_m3 105 rfl) rfl
theorem q849 : (Jvm.Cond.soleField "OpcodeForge" "draftSize") ∈ lw_all := lw_g (lw_at lw_m3 106 rfl) rfl
theorem q850 : (Jvm.Cond.superclass "OpcodeForge" "java/lang/Object") ∈ lw_all := lw_g (lw_at lw_m3 107 rfl) rfl
theorem q852 : (Jvm.Cond.instanceMethod ({ cls := "OpcodeForge", name := "feed", desc := "(JI)I" } : Jvm.MethodName)) ∈ lw_all := lw_g (lw_at lw_m3 109 rfl) rfl
theorem q853 : (Jvm.Cond.selects "OpcodeForge" ({ cls := "OpcodeForge", name := "feed", desc := "(JI)I" } : Jvm.MethodName) ({ cls := "OpcodeForge", name := "feed", desc := "(JI)I" } : Jvm.MethodName)) ∈ lw_all := lw_g (lw_at lw_m3 110 rfl) rfl
theorem q854 : (Jvm.Cond.code ({ cls := "OpcodeForge", name := "feed", desc := "(JI)I" } : Jvm.MethodName) prog_1_method_3_code (5 : Nat) (Option.some Jvm.ClassFile.FieldType.int)) ∈ lw_all := lw_g (lw_at lw_m3 111 rfl) rfl
theorem q855 : (Jvm.Cond.constantLong "OpcodeForge" (69 : Nat) (8 : Int64)) ∈ lw_all := lw_g (lw_at lw_m3 112 rfl) rfl
theorem q856 : (Jvm.Cond.methodLink "OpcodeForge" (71 : Nat) ({ cls := "OpcodeForge", name := "isIn", desc := "(JJJ)Z" } : Jvm.MethodName)) ∈ lw_all := lw_g (lw_at lw_m3 113 rfl) rfl
theorem q857 : (Jvm.Cond.static ({ cls := "OpcodeForge", name := "isIn", desc := "(JJJ)Z" } : Jvm.MethodName)) ∈ lw_all := lw_g (lw_at lw_m3 114 rfl) rfl
theorem q858 : (Jvm.Cond.code ({ cls := "OpcodeForge", name := "isIn", desc := "(JJJ)Z" } : Jvm.MethodName) prog_1_method_1_code (6 : Nat) (Option.some Jvm.ClassFile.FieldType.boolean)) ∈ lw_all := lw_g (lw_at lw_m3 115 rfl) rfl
theorem q860 : (Jvm.Cond.instanceMethod ({ cls := "OpcodeForge", name := "forge", desc := "()I" } : Jvm.MethodName)) ∈ lw_all := lw_g (lw_at lw_m3 117 rfl) rfl
theorem q861 : (Jvm.Cond.selects "OpcodeForge" ({ cls := "OpcodeForge", name := "forge", desc := "()I" } : Jvm.MethodName) ({ cls := "OpcodeForge", name := "forge", desc := "()I" } : Jvm.MethodName)) ∈ lw_all := lw_g (lw_at lw_m3 118 rfl) rfl
theorem q862 : (Jvm.Cond.codeWith ({ cls := "OpcodeForge", name := "forge", desc := "()I" } : Jvm.MethodName) prog_1_method_4_code (2 : Nat) (Option.some Jvm.ClassFile.FieldType.int) [((0 : Nat), (14 : Nat), (17 : Nat), (91 : Nat))]) ∈ lw_all := lw_g (lw_at lw_m3 119 rfl) rfl
theorem q863 : (Jvm.Cond.classLink "OpcodeForge" (91 : Nat) "OpcodeForge$Fault") ∈ lw_all := lw_g (lw_at lw_m3 120 rfl) rfl
theorem q864 : (Jvm.Cond.methodLink "OpcodeForge" (87 : Nat) ({ cls := "OpcodeForge$Assembler", name := "forge", desc := "([B)V" } : Jvm.MethodName)) ∈ lw_all := lw_g (lw_at lw_m3 121 rfl) rfl
theorem q926 : (Jvm.Cond.fieldLinkNest "OpcodeForge" (105 : Nat) "OpcodeForge$Fault" "number" "I" "OpcodeForge") ∈ lw_tbl := lw_at lw_m3 183 rfl
theorem q929 : (Jvm.Cond.fieldLinkNest "OpcodeForge" (99 : Nat) "OpcodeForge$Fault" "place" "I" "OpcodeForge") ∈ lw_tbl := lw_at lw_m3 186 rfl
theorem q1385 : (Jvm.Cond.methodLink "OpcodeForge" (124 : Nat) ({ cls := "OpcodeForge$Labels", name := "copy", desc := "(LOpcodeForge$Labels;)V" } : Jvm.MethodName)) ∈ lw_all := lw_g (lw_at lw_m5 162 rfl) rfl
theorem q1389 : (Jvm.Cond.constant "OpcodeForge" (129 : Nat) (65536 : Int32)) ∈ lw_all := lw_g (lw_at lw_m5 166 rfl) rfl
theorem q1390 : (Jvm.Cond.methodLink "OpcodeForge" (130 : Nat) ({ cls := "java/lang/System", name := "arraycopy", desc := "(Ljava/lang/Object;ILjava/lang/Object;II)V" } : Jvm.MethodName)) ∈ lw_all := lw_g (lw_at lw_m5 167 rfl) rfl
theorem q1392 : (Jvm.Cond.instanceMethod ({ cls := "OpcodeForge", name := "told", desc := "(I)I" } : Jvm.MethodName)) ∈ lw_all := lw_g (lw_at lw_m5 169 rfl) rfl
theorem q1393 : (Jvm.Cond.selects "OpcodeForge" ({ cls := "OpcodeForge", name := "told", desc := "(I)I" } : Jvm.MethodName) ({ cls := "OpcodeForge", name := "told", desc := "(I)I" } : Jvm.MethodName)) ∈ lw_all := lw_g (lw_at lw_m5 170 rfl) rfl
theorem q1394 : (Jvm.Cond.code ({ cls := "OpcodeForge", name := "told", desc := "(I)I" } : Jvm.MethodName) prog_1_method_5_code (2 : Nat) (Option.some Jvm.ClassFile.FieldType.int)) ∈ lw_all := lw_g (lw_at lw_m5 171 rfl) rfl
theorem q1396 : (Jvm.Cond.instanceMethod ({ cls := "OpcodeForge", name := "label", desc := "(I)I" } : Jvm.MethodName)) ∈ lw_all := lw_g (lw_at lw_m5 173 rfl) rfl
theorem q1397 : (Jvm.Cond.selects "OpcodeForge" ({ cls := "OpcodeForge", name := "label", desc := "(I)I" } : Jvm.MethodName) ({ cls := "OpcodeForge", name := "label", desc := "(I)I" } : Jvm.MethodName)) ∈ lw_all := lw_g (lw_at lw_m5 174 rfl) rfl
theorem q1398 : (Jvm.Cond.code ({ cls := "OpcodeForge", name := "label", desc := "(I)I" } : Jvm.MethodName) prog_1_method_6_code (2 : Nat) (Option.some Jvm.ClassFile.FieldType.int)) ∈ lw_all := lw_g (lw_at lw_m5 175 rfl) rfl
theorem q1400 : (Jvm.Cond.instanceMethod ({ cls := "OpcodeForge", name := "labelSign", desc := "(II)I" } : Jvm.MethodName)) ∈ lw_all := lw_g (lw_at lw_m5 177 rfl) rfl
theorem q1401 : (Jvm.Cond.selects "OpcodeForge" ({ cls := "OpcodeForge", name := "labelSign", desc := "(II)I" } : Jvm.MethodName) ({ cls := "OpcodeForge", name := "labelSign", desc := "(II)I" } : Jvm.MethodName)) ∈ lw_all := lw_g (lw_at lw_m5 178 rfl) rfl
theorem q1402 : (Jvm.Cond.code ({ cls := "OpcodeForge", name := "labelSign", desc := "(II)I" } : Jvm.MethodName) prog_1_method_7_code (3 : Nat) (Option.some Jvm.ClassFile.FieldType.int)) ∈ lw_all := lw_g (lw_at lw_m5 179 rfl) rfl
theorem q1404 : (Jvm.Cond.instanceMethod ({ cls := "OpcodeForge", name := "write", desc := "(I)I" } : Jvm.MethodName)) ∈ lw_all := lw_g (lw_at lw_m5 181 rfl) rfl
theorem q1405 : (Jvm.Cond.selects "OpcodeForge" ({ cls := "OpcodeForge", name := "write", desc := "(I)I" } : Jvm.MethodName) ({ cls := "OpcodeForge", name := "write", desc := "(I)I" } : Jvm.MethodName)) ∈ lw_all := lw_g (lw_at lw_m5 182 rfl) rfl
theorem q1406 : (Jvm.Cond.code ({ cls := "OpcodeForge", name := "write", desc := "(I)I" } : Jvm.MethodName) prog_1_method_8_code (2 : Nat) (Option.some Jvm.ClassFile.FieldType.int)) ∈ lw_all := lw_g (lw_at lw_m5 183 rfl) rfl
theorem q1407 : (Jvm.Cond.constantLong "OpcodeForge" (152 : Nat) (65535 : Int64)) ∈ lw_all := lw_g (lw_at lw_m5 184 rfl) rfl
theorem q1408 : (Jvm.Cond.methodLink "OpcodeForge" (154 : Nat) ({ cls := "OpcodeForge$Writer", name := "write", desc := "([BI)I" } : Jvm.MethodName)) ∈ lw_all := lw_g (lw_at lw_m5 185 rfl) rfl
theorem q1462 : (Jvm.Cond.instanceMethod ({ cls := "OpcodeForge", name := "sign", desc := "(I)I" } : Jvm.MethodName)) ∈ lw_all := lw_g (lw_at lw_m5 239 rfl) rfl
theorem q1463 : (Jvm.Cond.selects "OpcodeForge" ({ cls := "OpcodeForge", name := "sign", desc := "(I)I" } : Jvm.MethodName) ({ cls := "OpcodeForge", name := "sign", desc := "(I)I" } : Jvm.MethodName)) ∈ lw_all := lw_g (lw_at lw_m6 0 rfl) rfl
theorem q1464 : (Jvm.Cond.code ({ cls := "OpcodeForge", name := "sign", desc := "(I)I" } : Jvm.MethodName) prog_1_method_9_code (2 : Nat) (Option.some Jvm.ClassFile.FieldType.int)) ∈ lw_all := lw_g (lw_at lw_m6 1 rfl) rfl
theorem q1466 : (Jvm.Cond.instanceMethod ({ cls := "OpcodeForge", name := "source", desc := "(II)I" } : Jvm.MethodName)) ∈ lw_all := lw_g (lw_at lw_m6 3 rfl) rfl
theorem q1467 : (Jvm.Cond.selects "OpcodeForge" ({ cls := "OpcodeForge", name := "source", desc := "(II)I" } : Jvm.MethodName) ({ cls := "OpcodeForge", name := "source", desc := "(II)I" } : Jvm.MethodName)) ∈ lw_all := lw_g (lw_at lw_m6 4 rfl) rfl
theorem q1468 : (Jvm.Cond.code ({ cls := "OpcodeForge", name := "source", desc := "(II)I" } : Jvm.MethodName) prog_1_method_11_code (5 : Nat) (Option.some Jvm.ClassFile.FieldType.int)) ∈ lw_all := lw_g (lw_at lw_m6 5 rfl) rfl
theorem q1469 : (Jvm.Cond.constantLong "OpcodeForge" (163 : Nat) (300 : Int64)) ∈ lw_all := lw_g (lw_at lw_m6 6 rfl) rfl
theorem q1470 : (Jvm.Cond.stringRef "OpcodeForge" (165 : Nat) "ORG ") ∈ lw_tbl := lw_at lw_m6 7 rfl
theorem q1471 : (Jvm.Cond.methodLinkNest "OpcodeForge" (167 : Nat) ({ cls := "OpcodeForge$Writer", name := "putText", desc := "(Ljava/lang/String;)V" } : Jvm.MethodName) "OpcodeForge") ∈ lw_tbl := lw_at lw_m6 8 rfl
theorem q1472 : (Jvm.Cond.methodLinkNest "OpcodeForge" (171 : Nat) ({ cls := "OpcodeForge$Writer", name := "putNumber", desc := "(I)V" } : Jvm.MethodName) "OpcodeForge") ∈ lw_tbl := lw_at lw_m6 9 rfl
theorem q1473 : (Jvm.Cond.methodLink "OpcodeForge" (175 : Nat) ({ cls := "OpcodeForge", name := "draftLine", desc := "()V" } : Jvm.MethodName)) ∈ lw_all := lw_g (lw_at lw_m6 10 rfl) rfl
theorem q1474 : (Jvm.Cond.privateMethod ({ cls := "OpcodeForge", name := "draftLine", desc := "()V" } : Jvm.MethodName)) ∈ lw_tbl := lw_at lw_m6 11 rfl
theorem q1475 : (Jvm.Cond.instanceMethod ({ cls := "OpcodeForge", name := "draftLine", desc := "()V" } : Jvm.MethodName)) ∈ lw_all := lw_g (lw_at lw_m6 12 rfl) rfl
theorem q1476 : (Jvm.Cond.code ({ cls := "OpcodeForge", name := "draftLine", desc := "()V" } : Jvm.MethodName) prog_1_method_10_code (2 : Nat) (Option.none : Option Jvm.ClassFile.FieldType)) ∈ lw_all := lw_g (lw_at lw_m6 13 rfl) rfl
theorem q1477 : (Jvm.Cond.constant "OpcodeForge" (178 : Nat) (65535 : Int32)) ∈ lw_all := lw_g (lw_at lw_m6 14 rfl) rfl
theorem q1479 : (Jvm.Cond.instanceMethod ({ cls := "OpcodeForge", name := "sourceAt", desc := "(I)I" } : Jvm.MethodName)) ∈ lw_all := lw_g (lw_at lw_m6 16 rfl) rfl
theorem q1480 : (Jvm.Cond.selects "OpcodeForge" ({ cls := "OpcodeForge", name := "sourceAt", desc := "(I)I" } : Jvm.MethodName) ({ cls := "OpcodeForge", name := "sourceAt", desc := "(I)I" } : Jvm.MethodName)) ∈ lw_all := lw_g (lw_at lw_m6 17 rfl) rfl
theorem q1481 : (Jvm.Cond.code ({ cls := "OpcodeForge", name := "sourceAt", desc := "(I)I" } : Jvm.MethodName) prog_1_method_12_code (2 : Nat) (Option.some Jvm.ClassFile.FieldType.int)) ∈ lw_all := lw_g (lw_at lw_m6 18 rfl) rfl
theorem q1483 : (Jvm.Cond.instanceMethod ({ cls := "OpcodeForge", name := "octet", desc := "(I)I" } : Jvm.MethodName)) ∈ lw_all := lw_g (lw_at lw_m6 20 rfl) rfl
theorem q1484 : (Jvm.Cond.selects "OpcodeForge" ({ cls := "OpcodeForge", name := "octet", desc := "(I)I" } : Jvm.MethodName) ({ cls := "OpcodeForge", name := "octet", desc := "(I)I" } : Jvm.MethodName)) ∈ lw_all := lw_g (lw_at lw_m6 21 rfl) rfl
theorem q1485 : (Jvm.Cond.code ({ cls := "OpcodeForge", name := "octet", desc := "(I)I" } : Jvm.MethodName) prog_1_method_13_code (2 : Nat) (Option.some Jvm.ClassFile.FieldType.int)) ∈ lw_all := lw_g (lw_at lw_m6 22 rfl) rfl
theorem q1486 : (Jvm.Cond.methodLink "OpcodeForge" (179 : Nat) ({ cls := "OpcodeForge$Machine", name := "get", desc := "(I)I" } : Jvm.MethodName)) ∈ lw_all := lw_g (lw_at lw_m6 23 rfl) rfl
theorem q1491 : (Jvm.Cond.instanceMethod ({ cls := "OpcodeForge", name := "put", desc := "(II)I" } : Jvm.MethodName)) ∈ lw_all := lw_g (lw_at lw_m6 28 rfl) rfl
theorem q1492 : (Jvm.Cond.selects "OpcodeForge" ({ cls := "OpcodeForge", name := "put", desc := "(II)I" } : Jvm.MethodName) ({ cls := "OpcodeForge", name := "put", desc := "(II)I" } : Jvm.MethodName)) ∈ lw_all := lw_g (lw_at lw_m6 29 rfl) rfl
theorem q1493 : (Jvm.Cond.code ({ cls := "OpcodeForge", name := "put", desc := "(II)I" } : Jvm.MethodName) prog_1_method_14_code (4 : Nat) (Option.some Jvm.ClassFile.FieldType.int)) ∈ lw_all := lw_g (lw_at lw_m6 30 rfl) rfl
theorem q1494 : (Jvm.Cond.constantLong "OpcodeForge" (183 : Nat) (255 : Int64)) ∈ lw_all := lw_g (lw_at lw_m6 31 rfl) rfl
theorem q1495 : (Jvm.Cond.methodLink "OpcodeForge" (185 : Nat) ({ cls := "OpcodeForge$Machine", name := "put", desc := "(II)V" } : Jvm.MethodName)) ∈ lw_all := lw_g (lw_at lw_m6 32 rfl) rfl
theorem q1500 : (Jvm.Cond.instanceMethod ({ cls := "OpcodeForge", name := "register", desc := "(I)I" } : Jvm.MethodName)) ∈ lw_all := lw_g (lw_at lw_m6 37 rfl) rfl
theorem q1501 : (Jvm.Cond.selects "OpcodeForge" ({ cls := "OpcodeForge", name := "register", desc := "(I)I" } : Jvm.MethodName) ({ cls := "OpcodeForge", name := "register", desc := "(I)I" } : Jvm.MethodName)) ∈ lw_all := lw_g (lw_at lw_m6 38 rfl) rfl
theorem q1502 : (Jvm.Cond.code ({ cls := "OpcodeForge", name := "register", desc := "(I)I" } : Jvm.MethodName) prog_1_method_17_code (2 : Nat) (Option.some Jvm.ClassFile.FieldType.int)) ∈ lw_all := lw_g (lw_at lw_m6 39 rfl) rfl
theorem q1503 : (Jvm.Cond.methodLink "OpcodeForge" (192 : Nat) ({ cls := "OpcodeForge$Machine", name := "pair", desc := "(I)I" } : Jvm.MethodName)) ∈ lw_all := lw_g (lw_at lw_m6 40 rfl) rfl
theorem q1507 : (Jvm.Cond.methodLink "OpcodeForge" (195 : Nat) ({ cls := "OpcodeForge", name := "otherPair", desc := "(I)I" } : Jvm.MethodName)) ∈ lw_all := lw_g (lw_at lw_m6 44 rfl) rfl
theorem q1508 : (Jvm.Cond.privateMethod ({ cls := "OpcodeForge", name := "otherPair", desc := "(I)I" } : Jvm.MethodName)) ∈ lw_tbl := lw_at lw_m6 45 rfl
theorem q1509 : (Jvm.Cond.instanceMethod ({ cls := "OpcodeForge", name := "otherPair", desc := "(I)I" } : Jvm.MethodName)) ∈ lw_all := lw_g (lw_at lw_m6 46 rfl) rfl
theorem q1510 : (Jvm.Cond.code ({ cls := "OpcodeForge", name := "otherPair", desc := "(I)I" } : Jvm.MethodName) prog_1_method_15_code (2 : Nat) (Option.some Jvm.ClassFile.FieldType.int)) ∈ lw_all := lw_g (lw_at lw_m6 47 rfl) rfl
theorem q1512 : (Jvm.Cond.instanceMethod ({ cls := "OpcodeForge", name := "set", desc := "(II)I" } : Jvm.MethodName)) ∈ lw_all := lw_g (lw_at lw_m6 49 rfl) rfl
theorem q1513 : (Jvm.Cond.selects "OpcodeForge" ({ cls := "OpcodeForge", name := "set", desc := "(II)I" } : Jvm.MethodName) ({ cls := "OpcodeForge", name := "set", desc := "(II)I" } : Jvm.MethodName)) ∈ lw_all := lw_g (lw_at lw_m6 50 rfl) rfl
theorem q1514 : (Jvm.Cond.code ({ cls := "OpcodeForge", name := "set", desc := "(II)I" } : Jvm.MethodName) prog_1_method_19_code (4 : Nat) (Option.some Jvm.ClassFile.FieldType.int)) ∈ lw_all := lw_g (lw_at lw_m6 51 rfl) rfl
theorem q1515 : (Jvm.Cond.constantLong "OpcodeForge" (228 : Nat) (16 : Int64)) ∈ lw_all := lw_g (lw_at lw_m6 52 rfl) rfl
theorem q1516 : (Jvm.Cond.constantLong "OpcodeForge" (230 : Nat) (2 : Int64)) ∈ lw_all := lw_g (lw_at lw_m6 53 rfl) rfl
theorem q1517 : (Jvm.Cond.methodLink "OpcodeForge" (232 : Nat) ({ cls := "OpcodeForge", name := "register", desc := "(I)I" } : Jvm.MethodName)) ∈ lw_all := lw_g (lw_at lw_m6 54 rfl) rfl
theorem q1518 : (Jvm.Cond.methodLink "OpcodeForge" (235 : Nat) ({ cls := "OpcodeForge", name := "setRegister", desc := "(II)V" } : Jvm.MethodName)) ∈ lw_all := lw_g (lw_at lw_m6 55 rfl) rfl
theorem q1519 : (Jvm.Cond.privateMethod ({ cls := "OpcodeForge", name := "setRegister", desc := "(II)V" } : Jvm.MethodName)) ∈ lw_tbl := lw_at lw_m6 56 rfl
theorem q1520 : (Jvm.Cond.instanceMethod ({ cls := "OpcodeForge", name := "setRegister", desc := "(II)V" } : Jvm.MethodName)) ∈ lw_all := lw_g (lw_at lw_m6 57 rfl) rfl
theorem q1521 : (Jvm.Cond.code ({ cls := "OpcodeForge", name := "setRegister", desc := "(II)V" } : Jvm.MethodName) prog_1_method_18_code (3 : Nat) (Option.none : Option Jvm.ClassFile.FieldType)) ∈ lw_all := lw_g (lw_at lw_m6 58 rfl) rfl
theorem q1522 : (Jvm.Cond.methodLink "OpcodeForge" (222 : Nat) ({ cls := "OpcodeForge$Machine", name := "setPair", desc := "(II)V" } : Jvm.MethodName)) ∈ lw_all := lw_g (lw_at lw_m6 59 rfl) rfl
theorem q1526 : (Jvm.Cond.methodLink "OpcodeForge" (225 : Nat) ({ cls := "OpcodeForge", name := "setOtherPair", desc := "(II)V" } : Jvm.MethodName)) ∈ lw_all := lw_g (lw_at lw_m6 63 rfl) rfl
theorem q1527 : (Jvm.Cond.privateMethod ({ cls := "OpcodeForge", name := "setOtherPair", desc := "(II)V" } : Jvm.MethodName)) ∈ lw_tbl := lw_at lw_m6 64 rfl
theorem q1528 : (Jvm.Cond.instanceMethod ({ cls := "OpcodeForge", name := "setOtherPair", desc := "(II)V" } : Jvm.MethodName)) ∈ lw_all := lw_g (lw_at lw_m6 65 rfl) rfl
theorem q1529 : (Jvm.Cond.code ({ cls := "OpcodeForge", name := "setOtherPair", desc := "(II)V" } : Jvm.MethodName) prog_1_method_16_code (3 : Nat) (Option.none : Option Jvm.ClassFile.FieldType)) ∈ lw_all := lw_g (lw_at lw_m6 66 rfl) rfl
theorem q1531 : (Jvm.Cond.instanceMethod ({ cls := "OpcodeForge", name := "port", desc := "(II)I" } : Jvm.MethodName)) ∈ lw_all := lw_g (lw_at lw_m6 68 rfl) rfl
theorem q1532 : (Jvm.Cond.selects "OpcodeForge" ({ cls := "OpcodeForge", name := "port", desc := "(II)I" } : Jvm.MethodName) ({ cls := "OpcodeForge", name := "port", desc := "(II)I" } : Jvm.MethodName)) ∈ lw_all := lw_g (lw_at lw_m6 69 rfl) rfl
theorem q1533 : (Jvm.Cond.code ({ cls := "OpcodeForge", name := "port", desc := "(II)I" } : Jvm.MethodName) prog_1_method_20_code (4 : Nat) (Option.some Jvm.ClassFile.FieldType.int)) ∈ lw_all := lw_g (lw_at lw_m6 70 rfl) rfl
theorem q1535 : (Jvm.Cond.instanceMethod ({ cls := "OpcodeForge", name := "out", desc := "(I)I" } : Jvm.MethodName)) ∈ lw_all := lw_g (lw_at lw_m6 72 rfl) rfl
theorem q1536 : (Jvm.Cond.selects "OpcodeForge" ({ cls := "OpcodeForge", name := "out", desc := "(I)I" } : Jvm.MethodName) ({ cls := "OpcodeForge", name := "out", desc := "(I)I" } : Jvm.MethodName)) ∈ lw_all := lw_g (lw_at lw_m6 73 rfl) rfl
theorem q1537 : (Jvm.Cond.code ({ cls := "OpcodeForge", name := "out", desc := "(I)I" } : Jvm.MethodName) prog_1_method_21_code (2 : Nat) (Option.some Jvm.ClassFile.FieldType.int)) ∈ lw_all := lw_g (lw_at lw_m6 74 rfl) rfl
theorem q1539 : (Jvm.Cond.instanceMethod ({ cls := "OpcodeForge", name := "request", desc := "(II)I" } : Jvm.MethodName)) ∈ lw_all := lw_g (lw_at lw_m6 76 rfl) rfl
theorem q1540 : (Jvm.Cond.selects "OpcodeForge" ({ cls := "OpcodeForge", name := "request", desc := "(II)I" } : Jvm.MethodName) ({ cls := "OpcodeForge", name := "request", desc := "(II)I" } : Jvm.MethodName)) ∈ lw_all := lw_g (lw_at lw_m6 77 rfl) rfl
theorem q1541 : (Jvm.Cond.code ({ cls := "OpcodeForge", name := "request", desc := "(II)I" } : Jvm.MethodName) prog_1_method_22_code (4 : Nat) (Option.some Jvm.ClassFile.FieldType.int)) ∈ lw_all := lw_g (lw_at lw_m6 78 rfl) rfl
theorem q1543 : (Jvm.Cond.instanceMethod ({ cls := "OpcodeForge", name := "step", desc := "()I" } : Jvm.MethodName)) ∈ lw_all := lw_g (lw_at lw_m6 80 rfl) rfl
theorem q1544 : (Jvm.Cond.selects "OpcodeForge" ({ cls := "OpcodeForge", name := "step", desc := "()I" } : Jvm.MethodName) ({ cls := "OpcodeForge", name := "step", desc := "()I" } : Jvm.MethodName)) ∈ lw_all := lw_g (lw_at lw_m6 81 rfl) rfl
theorem q1545 : (Jvm.Cond.code ({ cls := "OpcodeForge", name := "step", desc := "()I" } : Jvm.MethodName) prog_1_method_23_code (1 : Nat) (Option.some Jvm.ClassFile.FieldType.int)) ∈ lw_all := lw_g (lw_at lw_m6 82 rfl) rfl
theorem q1546 : (Jvm.Cond.methodLink "OpcodeForge" (254 : Nat) ({ cls := "OpcodeForge$Machine", name := "step", desc := "()I" } : Jvm.MethodName)) ∈ lw_all := lw_g (lw_at lw_m6 83 rfl) rfl
theorem q1747 : (Jvm.Cond.instanceMethod ({ cls := "OpcodeForge", name := "run", desc := "(I)I" } : Jvm.MethodName)) ∈ lw_all := lw_g (lw_at lw_m7 44 rfl) rfl
theorem q1748 : (Jvm.Cond.selects "OpcodeForge" ({ cls := "OpcodeForge", name := "run", desc := "(I)I" } : Jvm.MethodName) ({ cls := "OpcodeForge", name := "run", desc := "(I)I" } : Jvm.MethodName)) ∈ lw_all := lw_g (lw_at lw_m7 45 rfl) rfl
theorem q1749 : (Jvm.Cond.code ({ cls := "OpcodeForge", name := "run", desc := "(I)I" } : Jvm.MethodName) prog_1_method_24_code (5 : Nat) (Option.some Jvm.ClassFile.FieldType.int)) ∈ lw_all := lw_g (lw_at lw_m7 46 rfl) rfl
theorem q1750 : (Jvm.Cond.constantLong "OpcodeForge" (258 : Nat) (20000 : Int64)) ∈ lw_all := lw_g (lw_at lw_m7 47 rfl) rfl
theorem q1752 : (Jvm.Cond.instanceMethod ({ cls := "OpcodeForge", name := "outs", desc := "()J" } : Jvm.MethodName)) ∈ lw_all := lw_g (lw_at lw_m7 49 rfl) rfl
theorem q1753 : (Jvm.Cond.selects "OpcodeForge" ({ cls := "OpcodeForge", name := "outs", desc := "()J" } : Jvm.MethodName) ({ cls := "OpcodeForge", name := "outs", desc := "()J" } : Jvm.MethodName)) ∈ lw_all := lw_g (lw_at lw_m7 50 rfl) rfl
theorem q1754 : (Jvm.Cond.code ({ cls := "OpcodeForge", name := "outs", desc := "()J" } : Jvm.MethodName) prog_1_method_25_code (1 : Nat) (Option.some Jvm.ClassFile.FieldType.long)) ∈ lw_all := lw_g (lw_at lw_m7 51 rfl) rfl
theorem q1756 : (Jvm.Cond.instanceMethod ({ cls := "OpcodeForge", name := "clear", desc := "()V" } : Jvm.MethodName)) ∈ lw_all := lw_g (lw_at lw_m7 53 rfl) rfl
theorem q1757 : (Jvm.Cond.selects "OpcodeForge" ({ cls := "OpcodeForge", name := "clear", desc := "()V" } : Jvm.MethodName) ({ cls := "OpcodeForge", name := "clear", desc := "()V" } : Jvm.MethodName)) ∈ lw_all := lw_g (lw_at lw_m7 54 rfl) rfl
theorem q1758 : (Jvm.Cond.code ({ cls := "OpcodeForge", name := "clear", desc := "()V" } : Jvm.MethodName) prog_1_method_26_code (1 : Nat) (Option.none : Option Jvm.ClassFile.FieldType)) ∈ lw_all := lw_g (lw_at lw_m7 55 rfl) rfl
theorem q1759 : (Jvm.Cond.methodLink "OpcodeForge" (264 : Nat) ({ cls := "OpcodeForge$Machine", name := "clear", desc := "()V" } : Jvm.MethodName)) ∈ lw_all := lw_g (lw_at lw_m7 56 rfl) rfl
theorem in_X0 : ∀ w ∈ wsX00, w ∈ lw_all := lw_in wsX00 [820, 822, 824, 826, 828, 830, 832, 834, 836, 838, 840, 842, 844, 846, 848] (by decide +kernel) (by decide +kernel)
def RX1 : String := "OpcodeForge$Words"
def TX1 : u_T := fun k => match k with
  | _ => ("OpcodeForge$Words", "names", "[Ljava/lang/String;", true)
def tyX1 : Nat → FieldType := fun k => match k with
  | _ => .array (.object "java/lang/String")
abbrev wsX10 : List Cond := u_ws RX1 TX1 1
theorem nmX1 : ∀ a, a < 1 → ∀ b, b < 1 → a ≠ b → (TX1 a).2.1 ≠ (TX1 b).2.1 := by decide +kernel
theorem tyX1_ok : ∀ k, k < 1 → parseFieldDescriptor (TX1 k).2.2.1 = some (tyX1 k) := by decide +kernel
abbrev cX1_init : ByteArray := prog_9_method_1_code
def yX1_init : MethodName := ⟨RX1, "<init>", "()V"⟩
abbrev cX1_find : ByteArray := prog_9_method_2_code
def yX1_find : MethodName := ⟨RX1, "find", "([BII)I"⟩
abbrev cX1_isLike : ByteArray := prog_9_method_3_code
def yX1_isLike : MethodName := ⟨RX1, "isLike", "(Ljava/lang/String;[BII)Z"⟩
theorem q265 : (Jvm.Cond.initialized "OpcodeForge$Words") ∈ lw_all := lw_g (lw_at lw_m1 2 rfl) rfl
theorem q293 : (Jvm.Cond.instantiable "OpcodeForge$Words" (1 : Nat)) ∈ lw_all := lw_g (lw_at lw_m1 30 rfl) rfl
theorem q295 : (Jvm.Cond.instanceMethod ({ cls := "OpcodeForge$Words", name := "<init>", desc := "()V" } : Jvm.MethodName)) ∈ lw_all := lw_g (lw_at lw_m1 32 rfl) rfl
theorem q296 : (Jvm.Cond.code ({ cls := "OpcodeForge$Words", name := "<init>", desc := "()V" } : Jvm.MethodName) prog_9_method_1_code (1 : Nat) (Option.none : Option Jvm.ClassFile.FieldType)) ∈ lw_all := lw_g (lw_at lw_m1 33 rfl) rfl
theorem q297 : (Jvm.Cond.methodLink "OpcodeForge$Words" (3 : Nat) ({ cls := "java/lang/Object", name := "<init>", desc := "()V" } : Jvm.MethodName)) ∈ lw_all := lw_g (lw_at lw_m1 34 rfl) rfl
theorem q298 : (Jvm.Cond.classLink "OpcodeForge$Words" (9 : Nat) "java/lang/String") ∈ lw_all := lw_g (lw_at lw_m1 35 rfl) rfl
theorem q300 : (Jvm.Cond.stringRef "OpcodeForge$Words" (11 : Nat) "NOP") ∈ lw_tbl := lw_at lw_m1 37 rfl
theorem q301 : (Jvm.Cond.stringRef "OpcodeForge$Words" (13 : Nat) "EX") ∈ lw_tbl := lw_at lw_m1 38 rfl
theorem q302 : (Jvm.Cond.stringRef "OpcodeForge$Words" (15 : Nat) "DJNZ") ∈ lw_tbl := lw_at lw_m1 39 rfl
theorem q303 : (Jvm.Cond.stringRef "OpcodeForge$Words" (17 : Nat) "JR") ∈ lw_tbl := lw_at lw_m1 40 rfl
theorem q304 : (Jvm.Cond.stringRef "OpcodeForge$Words" (19 : Nat) "LD") ∈ lw_tbl := lw_at lw_m1 41 rfl
theorem q305 : (Jvm.Cond.stringRef "OpcodeForge$Words" (21 : Nat) "ADD") ∈ lw_tbl := lw_at lw_m1 42 rfl
theorem q306 : (Jvm.Cond.stringRef "OpcodeForge$Words" (23 : Nat) "INC") ∈ lw_tbl := lw_at lw_m1 43 rfl
theorem q307 : (Jvm.Cond.stringRef "OpcodeForge$Words" (25 : Nat) "DEC") ∈ lw_tbl := lw_at lw_m1 44 rfl
theorem q308 : (Jvm.Cond.stringRef "OpcodeForge$Words" (27 : Nat) "RLCA") ∈ lw_tbl := lw_at lw_m1 45 rfl
theorem q309 : (Jvm.Cond.stringRef "OpcodeForge$Words" (29 : Nat) "RRCA") ∈ lw_tbl := lw_at lw_m1 46 rfl
theorem q310 : (Jvm.Cond.stringRef "OpcodeForge$Words" (31 : Nat) "RLA") ∈ lw_tbl := lw_at lw_m1 47 rfl
theorem q311 : (Jvm.Cond.stringRef "OpcodeForge$Words" (33 : Nat) "RRA") ∈ lw_tbl := lw_at lw_m1 48 rfl
theorem q312 : (Jvm.Cond.stringRef "OpcodeForge$Words" (35 : Nat) "DAA") ∈ lw_tbl := lw_at lw_m1 49 rfl
theorem q313 : (Jvm.Cond.stringRef "OpcodeForge$Words" (37 : Nat) "CPL") ∈ lw_tbl := lw_at lw_m1 50 rfl
theorem q314 : (Jvm.Cond.stringRef "OpcodeForge$Words" (39 : Nat) "SCF") ∈ lw_tbl := lw_at lw_m1 51 rfl
theorem q315 : (Jvm.Cond.stringRef "OpcodeForge$Words" (41 : Nat) "CCF") ∈ lw_tbl := lw_at lw_m1 52 rfl
theorem q316 : (Jvm.Cond.stringRef "OpcodeForge$Words" (43 : Nat) "HALT") ∈ lw_tbl := lw_at lw_m1 53 rfl
theorem q317 : (Jvm.Cond.stringRef "OpcodeForge$Words" (45 : Nat) "ADC") ∈ lw_tbl := lw_at lw_m1 54 rfl
theorem q318 : (Jvm.Cond.stringRef "OpcodeForge$Words" (47 : Nat) "SUB") ∈ lw_tbl := lw_at lw_m1 55 rfl
theorem q319 : (Jvm.Cond.stringRef "OpcodeForge$Words" (49 : Nat) "SBC") ∈ lw_tbl := lw_at lw_m1 56 rfl
theorem q320 : (Jvm.Cond.stringRef "OpcodeForge$Words" (51 : Nat) "AND") ∈ lw_tbl := lw_at lw_m1 57 rfl
theorem q321 : (Jvm.Cond.stringRef "OpcodeForge$Words" (53 : Nat) "XOR") ∈ lw_tbl := lw_at lw_m1 58 rfl
theorem q322 : (Jvm.Cond.stringRef "OpcodeForge$Words" (55 : Nat) "OR") ∈ lw_tbl := lw_at lw_m1 59 rfl
theorem q323 : (Jvm.Cond.stringRef "OpcodeForge$Words" (57 : Nat) "CP") ∈ lw_tbl := lw_at lw_m1 60 rfl
theorem q324 : (Jvm.Cond.stringRef "OpcodeForge$Words" (59 : Nat) "RET") ∈ lw_tbl := lw_at lw_m1 61 rfl
theorem q325 : (Jvm.Cond.stringRef "OpcodeForge$Words" (61 : Nat) "POP") ∈ lw_tbl := lw_at lw_m1 62 rfl
theorem q326 : (Jvm.Cond.stringRef "OpcodeForge$Words" (63 : Nat) "EXX") ∈ lw_tbl := lw_at lw_m1 63 rfl
theorem q327 : (Jvm.Cond.stringRef "OpcodeForge$Words" (65 : Nat) "JP") ∈ lw_tbl := lw_at lw_m1 64 rfl
theorem q328 : (Jvm.Cond.stringRef "OpcodeForge$Words" (67 : Nat) "OUT") ∈ lw_tbl := lw_at lw_m1 65 rfl
theorem q329 : (Jvm.Cond.stringRef "OpcodeForge$Words" (69 : Nat) "IN") ∈ lw_tbl := lw_at lw_m1 66 rfl
theorem q330 : (Jvm.Cond.stringRef "OpcodeForge$Words" (71 : Nat) "DI") ∈ lw_tbl := lw_at lw_m1 67 rfl
theorem q331 : (Jvm.Cond.stringRef "OpcodeForge$Words" (73 : Nat) "EI") ∈ lw_tbl := lw_at lw_m1 68 rfl
theorem q332 : (Jvm.Cond.stringRef "OpcodeForge$Words" (75 : Nat) "CALL") ∈ lw_tbl := lw_at lw_m1 69 rfl
theorem q333 : (Jvm.Cond.stringRef "OpcodeForge$Words" (77 : Nat) "PUSH") ∈ lw_tbl := lw_at lw_m1 70 rfl
theorem q334 : (Jvm.Cond.stringRef "OpcodeForge$Words" (79 : Nat) "RST") ∈ lw_tbl := lw_at lw_m1 71 rfl
theorem q335 : (Jvm.Cond.stringRef "OpcodeForge$Words" (81 : Nat) "RLC") ∈ lw_tbl := lw_at lw_m1 72 rfl
theorem q336 : (Jvm.Cond.stringRef "OpcodeForge$Words" (83 : Nat) "RRC") ∈ lw_tbl := lw_at lw_m1 73 rfl
theorem q337 : (Jvm.Cond.stringRef "OpcodeForge$Words" (85 : Nat) "RL") ∈ lw_tbl := lw_at lw_m1 74 rfl
theorem q338 : (Jvm.Cond.stringRef "OpcodeForge$Words" (87 : Nat) "RR") ∈ lw_tbl := lw_at lw_m1 75 rfl
theorem q339 : (Jvm.Cond.stringRef "OpcodeForge$Words" (89 : Nat) "SLA") ∈ lw_tbl := lw_at lw_m1 76 rfl
theorem q340 : (Jvm.Cond.stringRef "OpcodeForge$Words" (91 : Nat) "SRA") ∈ lw_tbl := lw_at lw_m1 77 rfl
theorem q341 : (Jvm.Cond.stringRef "OpcodeForge$Words" (93 : Nat) "SRL") ∈ lw_tbl := lw_at lw_m1 78 rfl
theorem q342 : (Jvm.Cond.stringRef "OpcodeForge$Words" (95 : Nat) "BIT") ∈ lw_tbl := lw_at lw_m1 79 rfl
theorem q343 : (Jvm.Cond.stringRef "OpcodeForge$Words" (97 : Nat) "RES") ∈ lw_tbl := lw_at lw_m1 80 rfl
theorem q344 : (Jvm.Cond.stringRef "OpcodeForge$Words" (99 : Nat) "SET") ∈ lw_tbl := lw_at lw_m1 81 rfl
theorem q345 : (Jvm.Cond.stringRef "OpcodeForge$Words" (101 : Nat) "NEG") ∈ lw_tbl := lw_at lw_m1 82 rfl
theorem q346 : (Jvm.Cond.stringRef "OpcodeForge$Words" (103 : Nat) "RETN") ∈ lw_tbl := lw_at lw_m1 83 rfl
theorem q347 : (Jvm.Cond.stringRef "OpcodeForge$Words" (105 : Nat) "RETI") ∈ lw_tbl := lw_at lw_m1 84 rfl
theorem q348 : (Jvm.Cond.stringRef "OpcodeForge$Words" (107 : Nat) "IM") ∈ lw_tbl := lw_at lw_m1 85 rfl
theorem q349 : (Jvm.Cond.stringRef "OpcodeForge$Words" (109 : Nat) "RRD") ∈ lw_tbl := lw_at lw_m1 86 rfl
theorem q350 : (Jvm.Cond.stringRef "OpcodeForge$Words" (111 : Nat) "RLD") ∈ lw_tbl := lw_at lw_m1 87 rfl
theorem q351 : (Jvm.Cond.stringRef "OpcodeForge$Words" (113 : Nat) "LDI") ∈ lw_tbl := lw_at lw_m1 88 rfl
theorem q352 : (Jvm.Cond.stringRef "OpcodeForge$Words" (115 : Nat) "CPI") ∈ lw_tbl := lw_at lw_m1 89 rfl
theorem q353 : (Jvm.Cond.stringRef "OpcodeForge$Words" (117 : Nat) "INI") ∈ lw_tbl := lw_at lw_m1 90 rfl
theorem q354 : (Jvm.Cond.stringRef "OpcodeForge$Words" (119 : Nat) "OUTI") ∈ lw_tbl := lw_at lw_m1 91 rfl
theorem q355 : (Jvm.Cond.stringRef "OpcodeForge$Words" (121 : Nat) "LDD") ∈ lw_tbl := lw_at lw_m1 92 rfl
theorem q356 : (Jvm.Cond.stringRef "OpcodeForge$Words" (123 : Nat) "CPD") ∈ lw_tbl := lw_at lw_m1 93 rfl
theorem q357 : (Jvm.Cond.stringRef "OpcodeForge$Words" (125 : Nat) "IND") ∈ lw_tbl := lw_at lw_m1 94 rfl
theorem q358 : (Jvm.Cond.stringRef "OpcodeForge$Words" (127 : Nat) "OUTD") ∈ lw_tbl := lw_at lw_m1 95 rfl
theorem q359 : (Jvm.Cond.stringRef "OpcodeForge$Words" (129 : Nat) "LDIR") ∈ lw_tbl := lw_at lw_m1 96 rfl
theorem q360 : (Jvm.Cond.stringRef "OpcodeForge$Words" (131 : Nat) "CPIR") ∈ lw_tbl := lw_at lw_m1 97 rfl
theorem q361 : (Jvm.Cond.stringRef "OpcodeForge$Words" (133 : Nat) "INIR") ∈ lw_tbl := lw_at lw_m1 98 rfl
theorem q362 : (Jvm.Cond.stringRef "OpcodeForge$Words" (135 : Nat) "OTIR") ∈ lw_tbl := lw_at lw_m1 99 rfl
theorem q363 : (Jvm.Cond.stringRef "OpcodeForge$Words" (137 : Nat) "LDDR") ∈ lw_tbl := lw_at lw_m1 100 rfl
theorem q364 : (Jvm.Cond.stringRef "OpcodeForge$Words" (139 : Nat) "CPDR") ∈ lw_tbl := lw_at lw_m1 101 rfl
theorem q365 : (Jvm.Cond.stringRef "OpcodeForge$Words" (141 : Nat) "INDR") ∈ lw_tbl := lw_at lw_m1 102 rfl
theorem q366 : (Jvm.Cond.stringRef "OpcodeForge$Words" (143 : Nat) "OTDR") ∈ lw_tbl := lw_at lw_m1 103 rfl
theorem q367 : (Jvm.Cond.stringRef "OpcodeForge$Words" (145 : Nat) "ORG") ∈ lw_tbl := lw_at lw_m1 104 rfl
theorem q368 : (Jvm.Cond.stringRef "OpcodeForge$Words" (147 : Nat) "EQU") ∈ lw_tbl := lw_at lw_m1 105 rfl
theorem q369 : (Jvm.Cond.stringRef "OpcodeForge$Words" (149 : Nat) "DB") ∈ lw_tbl := lw_at lw_m1 106 rfl
theorem q370 : (Jvm.Cond.stringRef "OpcodeForge$Words" (151 : Nat) "DW") ∈ lw_tbl := lw_at lw_m1 107 rfl
theorem q371 : (Jvm.Cond.stringRef "OpcodeForge$Words" (153 : Nat) "DS") ∈ lw_tbl := lw_at lw_m1 108 rfl
theorem q372 : (Jvm.Cond.stringRef "OpcodeForge$Words" (155 : Nat) "IF") ∈ lw_tbl := lw_at lw_m1 109 rfl
theorem q373 : (Jvm.Cond.stringRef "OpcodeForge$Words" (157 : Nat) "ELSE") ∈ lw_tbl := lw_at lw_m1 110 rfl
theorem q374 : (Jvm.Cond.stringRef "OpcodeForge$Words" (159 : Nat) "ENDIF") ∈ lw_tbl := lw_at lw_m1 111 rfl
theorem q375 : (Jvm.Cond.stringRef "OpcodeForge$Words" (161 : Nat) "A") ∈ lw_tbl := lw_at lw_m1 112 rfl
theorem q376 : (Jvm.Cond.stringRef "OpcodeForge$Words" (163 : Nat) "B") ∈ lw_tbl := lw_at lw_m1 113 rfl
theorem q377 : (Jvm.Cond.stringRef "OpcodeForge$Words" (165 : Nat) "C") ∈ lw_tbl := lw_at lw_m1 114 rfl
theorem q378 : (Jvm.Cond.stringRef "OpcodeForge$Words" (167 : Nat) "D") ∈ lw_tbl := lw_at lw_m1 115 rfl
theorem q379 : (Jvm.Cond.stringRef "OpcodeForge$Words" (169 : Nat) "E") ∈ lw_tbl := lw_at lw_m1 116 rfl
theorem q380 : (Jvm.Cond.stringRef "OpcodeForge$Words" (171 : Nat) "H") ∈ lw_tbl := lw_at lw_m1 117 rfl
theorem q381 : (Jvm.Cond.stringRef "OpcodeForge$Words" (173 : Nat) "L") ∈ lw_tbl := lw_at lw_m1 118 rfl
theorem q382 : (Jvm.Cond.stringRef "OpcodeForge$Words" (175 : Nat) "I") ∈ lw_tbl := lw_at lw_m1 119 rfl
theorem q383 : (Jvm.Cond.stringRef "OpcodeForge$Words" (177 : Nat) "R") ∈ lw_tbl := lw_at lw_m1 120 rfl
theorem q384 : (Jvm.Cond.stringRef "OpcodeForge$Words" (179 : Nat) "AF") ∈ lw_tbl := lw_at lw_m1 121 rfl
theorem q385 : (Jvm.Cond.stringRef "OpcodeForge$Words" (181 : Nat) "AF'") ∈ lw_tbl := lw_at lw_m1 122 rfl
theorem q386 : (Jvm.Cond.stringRef "OpcodeForge$Words" (183 : Nat) "BC") ∈ lw_tbl := lw_at lw_m1 123 rfl
theorem q387 : (Jvm.Cond.stringRef "OpcodeForge$Words" (185 : Nat) "DE") ∈ lw_tbl := lw_at lw_m1 124 rfl
theorem q388 : (Jvm.Cond.stringRef "OpcodeForge$Words" (187 : Nat) "HL") ∈ lw_tbl := lw_at lw_m1 125 rfl
theorem q389 : (Jvm.Cond.stringRef "OpcodeForge$Words" (189 : Nat) "SP") ∈ lw_tbl := lw_at lw_m1 126 rfl
theorem q390 : (Jvm.Cond.stringRef "OpcodeForge$Words" (191 : Nat) "IX") ∈ lw_tbl := lw_at lw_m1 127 rfl
theorem q391 : (Jvm.Cond.stringRef "OpcodeForge$Words" (193 : Nat) "IY") ∈ lw_tbl := lw_at lw_m1 128 rfl
theorem q392 : (Jvm.Cond.stringRef "OpcodeForge$Words" (195 : Nat) "NZ") ∈ lw_tbl := lw_at lw_m1 129 rfl
theorem q393 : (Jvm.Cond.stringRef "OpcodeForge$Words" (197 : Nat) "Z") ∈ lw_tbl := lw_at lw_m1 130 rfl
theorem q394 : (Jvm.Cond.stringRef "OpcodeForge$Words" (199 : Nat) "NC") ∈ lw_tbl := lw_at lw_m1 131 rfl
theorem q395 : (Jvm.Cond.stringRef "OpcodeForge$Words" (201 : Nat) "PO") ∈ lw_tbl := lw_at lw_m1 132 rfl
theorem q396 : (Jvm.Cond.stringRef "OpcodeForge$Words" (203 : Nat) "PE") ∈ lw_tbl := lw_at lw_m1 133 rfl
theorem q397 : (Jvm.Cond.stringRef "OpcodeForge$Words" (205 : Nat) "P") ∈ lw_tbl := lw_at lw_m1 134 rfl
theorem q398 : (Jvm.Cond.stringRef "OpcodeForge$Words" (207 : Nat) "M") ∈ lw_tbl := lw_at lw_m1 135 rfl
theorem q399 : (Jvm.Cond.fieldLink "OpcodeForge$Words" (209 : Nat) "OpcodeForge$Words" "names" "[Ljava/lang/String;") ∈ lw_all := lw_g (lw_at lw_m1 136 rfl) rfl
theorem q401 : (Jvm.Cond.laysFinal "OpcodeForge$Words" "OpcodeForge$Words" "names" "[Ljava/lang/String;") ∈ lw_all := lw_g (lw_at lw_m1 138 rfl) rfl
theorem q402 : (Jvm.Cond.soleField "OpcodeForge$Words" "names") ∈ lw_all := lw_g (lw_at lw_m1 139 rfl) rfl
theorem q403 : (Jvm.Cond.superclass "OpcodeForge$Words" "java/lang/Object") ∈ lw_all := lw_g (lw_at lw_m1 140 rfl) rfl
theorem q1115 : (Jvm.Cond.instanceMethod ({ cls := "OpcodeForge$Words", name := "find", desc := "([BII)I" } : Jvm.MethodName)) ∈ lw_all := lw_g (lw_at lw_m4 132 rfl) rfl
theorem q1116 : (Jvm.Cond.selects "OpcodeForge$Words" ({ cls := "OpcodeForge$Words", name := "find", desc := "([BII)I" } : Jvm.MethodName) ({ cls := "OpcodeForge$Words", name := "find", desc := "([BII)I" } : Jvm.MethodName)) ∈ lw_all := lw_g (lw_at lw_m4 133 rfl) rfl
theorem q1117 : (Jvm.Cond.code ({ cls := "OpcodeForge$Words", name := "find", desc := "([BII)I" } : Jvm.MethodName) prog_9_method_2_code (5 : Nat) (Option.some Jvm.ClassFile.FieldType.int)) ∈ lw_all := lw_g (lw_at lw_m4 134 rfl) rfl
theorem q1118 : (Jvm.Cond.methodLink "OpcodeForge$Words" (215 : Nat) ({ cls := "OpcodeForge$Words", name := "isLike", desc := "(Ljava/lang/String;[BII)Z" } : Jvm.MethodName)) ∈ lw_all := lw_g (lw_at lw_m4 135 rfl) rfl
theorem q1119 : (Jvm.Cond.static ({ cls := "OpcodeForge$Words", name := "isLike", desc := "(Ljava/lang/String;[BII)Z" } : Jvm.MethodName)) ∈ lw_all := lw_g (lw_at lw_m4 136 rfl) rfl
theorem q1120 : (Jvm.Cond.code ({ cls := "OpcodeForge$Words", name := "isLike", desc := "(Ljava/lang/String;[BII)Z" } : Jvm.MethodName) prog_9_method_3_code (6 : Nat) (Option.some Jvm.ClassFile.FieldType.boolean)) ∈ lw_all := lw_g (lw_at lw_m4 137 rfl) rfl
theorem q1121 : (Jvm.Cond.methodLink "OpcodeForge$Words" (219 : Nat) ({ cls := "java/lang/String", name := "length", desc := "()I" } : Jvm.MethodName)) ∈ lw_all := lw_g (lw_at lw_m4 138 rfl) rfl
theorem q1122 : (Jvm.Cond.methodLink "OpcodeForge$Words" (223 : Nat) ({ cls := "java/lang/String", name := "charAt", desc := "(I)C" } : Jvm.MethodName)) ∈ lw_all := lw_g (lw_at lw_m4 139 rfl) rfl
theorem in_X1 : ∀ w ∈ wsX10, w ∈ lw_all := lw_in wsX10 [401] (by decide +kernel) (by decide +kernel)
def RX2 : String := "OpcodeForge$Forms"
def TX2 : u_T := fun k => match k with
  | 0 => ("OpcodeForge$Forms", "words", "[I", true)
  | 1 => ("OpcodeForge$Forms", "kindA", "[I", true)
  | 2 => ("OpcodeForge$Forms", "valueA", "[I", true)
  | 3 => ("OpcodeForge$Forms", "kindB", "[I", true)
  | 4 => ("OpcodeForge$Forms", "valueB", "[I", true)
  | 5 => ("OpcodeForge$Forms", "prefixes", "[I", true)
  | 6 => ("OpcodeForge$Forms", "octets", "[I", true)
  | 7 => ("OpcodeForge$Forms", "count", "I", false)
  | _ => ("OpcodeForge$Forms", "found", "[I", true)
def tyX2 : Nat → FieldType := fun k => match k with
  | 0 => .array .int
  | 1 => .array .int
  | 2 => .array .int
  | 3 => .array .int
  | 4 => .array .int
  | 5 => .array .int
  | 6 => .array .int
  | 7 => .int
  | _ => .array .int
abbrev wsX20 : List Cond := u_ws RX2 TX2 9
theorem nmX2 : ∀ a, a < 9 → ∀ b, b < 9 → a ≠ b → (TX2 a).2.1 ≠ (TX2 b).2.1 := by decide +kernel
theorem tyX2_ok : ∀ k, k < 9 → parseFieldDescriptor (TX2 k).2.2.1 = some (tyX2 k) := by decide +kernel
abbrev cX2_init : ByteArray := prog_4_method_1_code
def yX2_init : MethodName := ⟨RX2, "<init>", "()V"⟩
abbrev cX2_plain : ByteArray := prog_4_method_5_code
def yX2_plain : MethodName := ⟨RX2, "plain", "(I)V"⟩
abbrev cX2_low : ByteArray := prog_4_method_8_code
def yX2_low : MethodName := ⟨RX2, "low", "(III)V"⟩
abbrev cX2_one : ByteArray := prog_4_method_3_code
def yX2_one : MethodName := ⟨RX2, "one", "(IIII)V"⟩
abbrev cX2_add : ByteArray := prog_4_method_2_code
def yX2_add : MethodName := ⟨RX2, "add", "(IIIIIII)V"⟩
abbrev cX2_two : ByteArray := prog_4_method_4_code
def yX2_two : MethodName := ⟨RX2, "two", "(IIIIII)V"⟩
abbrev cX2_loads : ByteArray := prog_4_method_9_code
def yX2_loads : MethodName := ⟨RX2, "loads", "(IIZ)V"⟩
abbrev cX2_arithmetic : ByteArray := prog_4_method_7_code
def yX2_arithmetic : MethodName := ⟨RX2, "arithmetic", "(IIII)V"⟩
abbrev cX2_arithmeticWord : ByteArray := prog_4_method_6_code
def yX2_arithmeticWord : MethodName := ⟨RX2, "arithmeticWord", "(I)I"⟩
abbrev cX2_high : ByteArray := prog_4_method_11_code
def yX2_high : MethodName := ⟨RX2, "high", "(III)V"⟩
abbrev cX2_stacked : ByteArray := prog_4_method_10_code
def yX2_stacked : MethodName := ⟨RX2, "stacked", "(I)I"⟩
abbrev cX2_others : ByteArray := prog_4_method_12_code
def yX2_others : MethodName := ⟨RX2, "others", "(II)V"⟩
abbrev cX2_bits : ByteArray := prog_4_method_13_code
def yX2_bits : MethodName := ⟨RX2, "bits", "(I)V"⟩
abbrev cX2_extra : ByteArray := prog_4_method_14_code
def yX2_extra : MethodName := ⟨RX2, "extra", "(I)V"⟩
abbrev cX2_middle : ByteArray := prog_4_method_15_code
def yX2_middle : MethodName := ⟨RX2, "middle", "(III)V"⟩
abbrev cX2_last : ByteArray := prog_4_method_16_code
def yX2_last : MethodName := ⟨RX2, "last", "(II)V"⟩
abbrev cX2_indexed : ByteArray := prog_4_method_17_code
def yX2_indexed : MethodName := ⟨RX2, "indexed", "(I)V"⟩
abbrev cX2_kindWith : ByteArray := prog_4_method_18_code
def yX2_kindWith : MethodName := ⟨RX2, "kindWith", "(IIZ)I"⟩
abbrev cX2_valueWith : ByteArray := prog_4_method_19_code
def yX2_valueWith : MethodName := ⟨RX2, "valueWith", "(IIIZ)I"⟩
abbrev cX2_size : ByteArray := prog_4_method_22_code
def yX2_size : MethodName := ⟨RX2, "size", "(I)I"⟩
abbrev cX2_hasIndex : ByteArray := prog_4_method_20_code
def yX2_hasIndex : MethodName := ⟨RX2, "hasIndex", "(I)Z"⟩
abbrev cX2_behind : ByteArray := prog_4_method_21_code
def yX2_behind : MethodName := ⟨RX2, "behind", "(I)I"⟩
abbrev cX2_at : ByteArray := prog_4_method_23_code
def yX2_at : MethodName := ⟨RX2, "at", "([BI)I"⟩
theorem q266 : (Jvm.Cond.initialized "OpcodeForge$Forms") ∈ lw_all := lw_g (lw_at lw_m1 3 rfl) rfl
theorem q406 : (Jvm.Cond.instantiable "OpcodeForge$Forms" (9 : Nat)) ∈ lw_all := lw_g (lw_at lw_m1 143 rfl) rfl
theorem q408 : (Jvm.Cond.instanceMethod ({ cls := "OpcodeForge$Forms", name := "<init>", desc := "()V" } : Jvm.MethodName)) ∈ lw_all := lw_g (lw_at lw_m1 145 rfl) rfl
theorem q409 : (Jvm.Cond.code ({ cls := "OpcodeForge$Forms", name := "<init>", desc := "()V" } : Jvm.MethodName) prog_4_method_1_code (3 : Nat) (Option.none : Option Jvm.ClassFile.FieldType)) ∈ lw_all := lw_g (lw_at lw_m1 146 rfl) rfl
theorem q410 : (Jvm.Cond.methodLink "OpcodeForge$Forms" (3 : Nat) ({ cls := "java/lang/Object", name := "<init>", desc := "()V" } : Jvm.MethodName)) ∈ lw_all := lw_g (lw_at lw_m1 147 rfl) rfl
theorem q411 : (Jvm.Cond.methodLink "OpcodeForge$Forms" (36 : Nat) ({ cls := "OpcodeForge$Forms", name := "plain", desc := "(I)V" } : Jvm.MethodName)) ∈ lw_all := lw_g (lw_at lw_m1 148 rfl) rfl
theorem q412 : (Jvm.Cond.privateMethod ({ cls := "OpcodeForge$Forms", name := "plain", desc := "(I)V" } : Jvm.MethodName)) ∈ lw_tbl := lw_at lw_m1 149 rfl
theorem q413 : (Jvm.Cond.instanceMethod ({ cls := "OpcodeForge$Forms", name := "plain", desc := "(I)V" } : Jvm.MethodName)) ∈ lw_all := lw_g (lw_at lw_m1 150 rfl) rfl
theorem q414 : (Jvm.Cond.code ({ cls := "OpcodeForge$Forms", name := "plain", desc := "(I)V" } : Jvm.MethodName) prog_4_method_5_code (5 : Nat) (Option.none : Option Jvm.ClassFile.FieldType)) ∈ lw_all := lw_g (lw_at lw_m1 151 rfl) rfl
theorem q415 : (Jvm.Cond.methodLink "OpcodeForge$Forms" (57 : Nat) ({ cls := "OpcodeForge$Forms", name := "low", desc := "(III)V" } : Jvm.MethodName)) ∈ lw_all := lw_g (lw_at lw_m1 152 rfl) rfl
theorem q416 : (Jvm.Cond.privateMethod ({ cls := "OpcodeForge$Forms", name := "low", desc := "(III)V" } : Jvm.MethodName)) ∈ lw_tbl := lw_at lw_m1 153 rfl
theorem q417 : (Jvm.Cond.instanceMethod ({ cls := "OpcodeForge$Forms", name := "low", desc := "(III)V" } : Jvm.MethodName)) ∈ lw_all := lw_g (lw_at lw_m1 154 rfl) rfl
theorem q418 : (Jvm.Cond.code ({ cls := "OpcodeForge$Forms", name := "low", desc := "(III)V" } : Jvm.MethodName) prog_4_method_8_code (6 : Nat) (Option.none : Option Jvm.ClassFile.FieldType)) ∈ lw_all := lw_g (lw_at lw_m1 155 rfl) rfl
theorem q419 : (Jvm.Cond.methodLink "OpcodeForge$Forms" (63 : Nat) ({ cls := "OpcodeForge$Forms", name := "one", desc := "(IIII)V" } : Jvm.MethodName)) ∈ lw_all := lw_g (lw_at lw_m1 156 rfl) rfl
theorem q420 : (Jvm.Cond.privateMethod ({ cls := "OpcodeForge$Forms", name := "one", desc := "(IIII)V" } : Jvm.MethodName)) ∈ lw_tbl := lw_at lw_m1 157 rfl
theorem q421 : (Jvm.Cond.instanceMethod ({ cls := "OpcodeForge$Forms", name := "one", desc := "(IIII)V" } : Jvm.MethodName)) ∈ lw_all := lw_g (lw_at lw_m1 158 rfl) rfl
theorem q422 : (Jvm.Cond.code ({ cls := "OpcodeForge$Forms", name := "one", desc := "(IIII)V" } : Jvm.MethodName) prog_4_method_3_code (5 : Nat) (Option.none : Option Jvm.ClassFile.FieldType)) ∈ lw_all := lw_g (lw_at lw_m1 159 rfl) rfl
theorem q423 : (Jvm.Cond.methodLink "OpcodeForge$Forms" (53 : Nat) ({ cls := "OpcodeForge$Forms", name := "add", desc := "(IIIIIII)V" } : Jvm.MethodName)) ∈ lw_all := lw_g (lw_at lw_m1 160 rfl) rfl
theorem q424 : (Jvm.Cond.privateMethod ({ cls := "OpcodeForge$Forms", name := "add", desc := "(IIIIIII)V" } : Jvm.MethodName)) ∈ lw_tbl := lw_at lw_m1 161 rfl
theorem q425 : (Jvm.Cond.instanceMethod ({ cls := "OpcodeForge$Forms", name := "add", desc := "(IIIIIII)V" } : Jvm.MethodName)) ∈ lw_all := lw_g (lw_at lw_m1 162 rfl) rfl
theorem q426 : (Jvm.Cond.code ({ cls := "OpcodeForge$Forms", name := "add", desc := "(IIIIIII)V" } : Jvm.MethodName) prog_4_method_2_code (8 : Nat) (Option.none : Option Jvm.ClassFile.FieldType)) ∈ lw_all := lw_g (lw_at lw_m1 163 rfl) rfl
theorem q427 : (Jvm.Cond.methodLink "OpcodeForge$Forms" (67 : Nat) ({ cls := "OpcodeForge$Forms", name := "two", desc := "(IIIIII)V" } : Jvm.MethodName)) ∈ lw_all := lw_g (lw_at lw_m1 164 rfl) rfl
theorem q428 : (Jvm.Cond.privateMethod ({ cls := "OpcodeForge$Forms", name := "two", desc := "(IIIIII)V" } : Jvm.MethodName)) ∈ lw_tbl := lw_at lw_m1 165 rfl
theorem q429 : (Jvm.Cond.instanceMethod ({ cls := "OpcodeForge$Forms", name := "two", desc := "(IIIIII)V" } : Jvm.MethodName)) ∈ lw_all := lw_g (lw_at lw_m1 166 rfl) rfl
theorem q430 : (Jvm.Cond.code ({ cls := "OpcodeForge$Forms", name := "two", desc := "(IIIIII)V" } : Jvm.MethodName) prog_4_method_4_code (7 : Nat) (Option.none : Option Jvm.ClassFile.FieldType)) ∈ lw_all := lw_g (lw_at lw_m1 167 rfl) rfl
theorem q431 : (Jvm.Cond.methodLink "OpcodeForge$Forms" (81 : Nat) ({ cls := "OpcodeForge$Forms", name := "loads", desc := "(IIZ)V" } : Jvm.MethodName)) ∈ lw_all := lw_g (lw_at lw_m1 168 rfl) rfl
theorem q432 : (Jvm.Cond.privateMethod ({ cls := "OpcodeForge$Forms", name := "loads", desc := "(IIZ)V" } : Jvm.MethodName)) ∈ lw_tbl := lw_at lw_m1 169 rfl
theorem q433 : (Jvm.Cond.instanceMethod ({ cls := "OpcodeForge$Forms", name := "loads", desc := "(IIZ)V" } : Jvm.MethodName)) ∈ lw_all := lw_g (lw_at lw_m1 170 rfl) rfl
theorem q434 : (Jvm.Cond.code ({ cls := "OpcodeForge$Forms", name := "loads", desc := "(IIZ)V" } : Jvm.MethodName) prog_4_method_9_code (7 : Nat) (Option.none : Option Jvm.ClassFile.FieldType)) ∈ lw_all := lw_g (lw_at lw_m1 171 rfl) rfl
theorem q435 : (Jvm.Cond.methodLink "OpcodeForge$Forms" (71 : Nat) ({ cls := "OpcodeForge$Forms", name := "arithmetic", desc := "(IIII)V" } : Jvm.MethodName)) ∈ lw_all := lw_g (lw_at lw_m1 172 rfl) rfl
theorem q436 : (Jvm.Cond.privateMethod ({ cls := "OpcodeForge$Forms", name := "arithmetic", desc := "(IIII)V" } : Jvm.MethodName)) ∈ lw_tbl := lw_at lw_m1 173 rfl
theorem q437 : (Jvm.Cond.instanceMethod ({ cls := "OpcodeForge$Forms", name := "arithmetic", desc := "(IIII)V" } : Jvm.MethodName)) ∈ lw_all := lw_g (lw_at lw_m1 174 rfl) rfl
theorem q438 : (Jvm.Cond.code ({ cls := "OpcodeForge$Forms", name := "arithmetic", desc := "(IIII)V" } : Jvm.MethodName) prog_4_method_7_code (5 : Nat) (Option.none : Option Jvm.ClassFile.FieldType)) ∈ lw_all := lw_g (lw_at lw_m1 175 rfl) rfl
theorem q439 : (Jvm.Cond.methodLink "OpcodeForge$Forms" (77 : Nat) ({ cls := "OpcodeForge$Forms", name := "arithmeticWord", desc := "(I)I" } : Jvm.MethodName)) ∈ lw_all := lw_g (lw_at lw_m1 176 rfl) rfl
theorem q440 : (Jvm.Cond.static ({ cls := "OpcodeForge$Forms", name := "arithmeticWord", desc := "(I)I" } : Jvm.MethodName)) ∈ lw_all := lw_g (lw_at lw_m1 177 rfl) rfl
theorem q441 : (Jvm.Cond.code ({ cls := "OpcodeForge$Forms", name := "arithmeticWord", desc := "(I)I" } : Jvm.MethodName) prog_4_method_6_code (1 : Nat) (Option.some Jvm.ClassFile.FieldType.int)) ∈ lw_all := lw_g (lw_at lw_m1 178 rfl) rfl
theorem q442 : (Jvm.Cond.methodLink "OpcodeForge$Forms" (74 : Nat) ({ cls := "OpcodeForge$Forms", name := "high", desc := "(III)V" } : Jvm.MethodName)) ∈ lw_all := lw_g (lw_at lw_m1 179 rfl) rfl
theorem q443 : (Jvm.Cond.privateMethod ({ cls := "OpcodeForge$Forms", name := "high", desc := "(III)V" } : Jvm.MethodName)) ∈ lw_tbl := lw_at lw_m1 180 rfl
theorem q444 : (Jvm.Cond.instanceMethod ({ cls := "OpcodeForge$Forms", name := "high", desc := "(III)V" } : Jvm.MethodName)) ∈ lw_all := lw_g (lw_at lw_m1 181 rfl) rfl
theorem q445 : (Jvm.Cond.code ({ cls := "OpcodeForge$Forms", name := "high", desc := "(III)V" } : Jvm.MethodName) prog_4_method_11_code (6 : Nat) (Option.none : Option Jvm.ClassFile.FieldType)) ∈ lw_all := lw_g (lw_at lw_m1 182 rfl) rfl
theorem q446 : (Jvm.Cond.methodLink "OpcodeForge$Forms" (85 : Nat) ({ cls := "OpcodeForge$Forms", name := "stacked", desc := "(I)I" } : Jvm.MethodName)) ∈ lw_all := lw_g (lw_at lw_m1 183 rfl) rfl
theorem q447 : (Jvm.Cond.static ({ cls := "OpcodeForge$Forms", name := "stacked", desc := "(I)I" } : Jvm.MethodName)) ∈ lw_all := lw_g (lw_at lw_m1 184 rfl) rfl
theorem q448 : (Jvm.Cond.code ({ cls := "OpcodeForge$Forms", name := "stacked", desc := "(I)I" } : Jvm.MethodName) prog_4_method_10_code (1 : Nat) (Option.some Jvm.ClassFile.FieldType.int)) ∈ lw_all := lw_g (lw_at lw_m1 185 rfl) rfl
theorem q449 : (Jvm.Cond.methodLink "OpcodeForge$Forms" (88 : Nat) ({ cls := "OpcodeForge$Forms", name := "others", desc := "(II)V" } : Jvm.MethodName)) ∈ lw_all := lw_g (lw_at lw_m1 186 rfl) rfl
theorem q450 : (Jvm.Cond.privateMethod ({ cls := "OpcodeForge$Forms", name := "others", desc := "(II)V" } : Jvm.MethodName)) ∈ lw_tbl := lw_at lw_m1 187 rfl
theorem q451 : (Jvm.Cond.instanceMethod ({ cls := "OpcodeForge$Forms", name := "others", desc := "(II)V" } : Jvm.MethodName)) ∈ lw_all := lw_g (lw_at lw_m1 188 rfl) rfl
theorem q452 : (Jvm.Cond.code ({ cls := "OpcodeForge$Forms", name := "others", desc := "(II)V" } : Jvm.MethodName) prog_4_method_12_code (3 : Nat) (Option.none : Option Jvm.ClassFile.FieldType)) ∈ lw_all := lw_g (lw_at lw_m1 189 rfl) rfl
theorem q453 : (Jvm.Cond.methodLink "OpcodeForge$Forms" (40 : Nat) ({ cls := "OpcodeForge$Forms", name := "bits", desc := "(I)V" } : Jvm.MethodName)) ∈ lw_all := lw_g (lw_at lw_m1 190 rfl) rfl
theorem q454 : (Jvm.Cond.privateMethod ({ cls := "OpcodeForge$Forms", name := "bits", desc := "(I)V" } : Jvm.MethodName)) ∈ lw_tbl := lw_at lw_m1 191 rfl
theorem q455 : (Jvm.Cond.instanceMethod ({ cls := "OpcodeForge$Forms", name := "bits", desc := "(I)V" } : Jvm.MethodName)) ∈ lw_all := lw_g (lw_at lw_m1 192 rfl) rfl
theorem q456 : (Jvm.Cond.code ({ cls := "OpcodeForge$Forms", name := "bits", desc := "(I)V" } : Jvm.MethodName) prog_4_method_13_code (4 : Nat) (Option.none : Option Jvm.ClassFile.FieldType)) ∈ lw_all := lw_g (lw_at lw_m1 193 rfl) rfl
theorem q457 : (Jvm.Cond.methodLink "OpcodeForge$Forms" (43 : Nat) ({ cls := "OpcodeForge$Forms", name := "extra", desc := "(I)V" } : Jvm.MethodName)) ∈ lw_all := lw_g (lw_at lw_m1 194 rfl) rfl
theorem q458 : (Jvm.Cond.privateMethod ({ cls := "OpcodeForge$Forms", name := "extra", desc := "(I)V" } : Jvm.MethodName)) ∈ lw_tbl := lw_at lw_m1 195 rfl
theorem q459 : (Jvm.Cond.instanceMethod ({ cls := "OpcodeForge$Forms", name := "extra", desc := "(I)V" } : Jvm.MethodName)) ∈ lw_all := lw_g (lw_at lw_m1 196 rfl) rfl
theorem q460 : (Jvm.Cond.code ({ cls := "OpcodeForge$Forms", name := "extra", desc := "(I)V" } : Jvm.MethodName) prog_4_method_14_code (5 : Nat) (Option.none : Option Jvm.ClassFile.FieldType)) ∈ lw_all := lw_g (lw_at lw_m1 197 rfl) rfl
theorem q461 : (Jvm.Cond.methodLink "OpcodeForge$Forms" (92 : Nat) ({ cls := "OpcodeForge$Forms", name := "middle", desc := "(III)V" } : Jvm.MethodName)) ∈ lw_all := lw_g (lw_at lw_m1 198 rfl) rfl
theorem q462 : (Jvm.Cond.privateMethod ({ cls := "OpcodeForge$Forms", name := "middle", desc := "(III)V" } : Jvm.MethodName)) ∈ lw_tbl := lw_at lw_m1 199 rfl
theorem q463 : (Jvm.Cond.instanceMethod ({ cls := "OpcodeForge$Forms", name := "middle", desc := "(III)V" } : Jvm.MethodName)) ∈ lw_all := lw_g (lw_at lw_m1 200 rfl) rfl
theorem q464 : (Jvm.Cond.code ({ cls := "OpcodeForge$Forms", name := "middle", desc := "(III)V" } : Jvm.MethodName) prog_4_method_15_code (6 : Nat) (Option.none : Option Jvm.ClassFile.FieldType)) ∈ lw_all := lw_g (lw_at lw_m1 201 rfl) rfl
theorem q465 : (Jvm.Cond.methodLink "OpcodeForge$Forms" (95 : Nat) ({ cls := "OpcodeForge$Forms", name := "last", desc := "(II)V" } : Jvm.MethodName)) ∈ lw_all := lw_g (lw_at lw_m1 202 rfl) rfl
theorem q466 : (Jvm.Cond.privateMethod ({ cls := "OpcodeForge$Forms", name := "last", desc := "(II)V" } : Jvm.MethodName)) ∈ lw_tbl := lw_at lw_m1 203 rfl
theorem q467 : (Jvm.Cond.instanceMethod ({ cls := "OpcodeForge$Forms", name := "last", desc := "(II)V" } : Jvm.MethodName)) ∈ lw_all := lw_g (lw_at lw_m1 204 rfl) rfl
theorem q468 : (Jvm.Cond.code ({ cls := "OpcodeForge$Forms", name := "last", desc := "(II)V" } : Jvm.MethodName) prog_4_method_16_code (3 : Nat) (Option.none : Option Jvm.ClassFile.FieldType)) ∈ lw_all := lw_g (lw_at lw_m1 205 rfl) rfl
theorem q469 : (Jvm.Cond.methodLink "OpcodeForge$Forms" (50 : Nat) ({ cls := "OpcodeForge$Forms", name := "indexed", desc := "(I)V" } : Jvm.MethodName)) ∈ lw_all := lw_g (lw_at lw_m1 206 rfl) rfl
theorem q470 : (Jvm.Cond.privateMethod ({ cls := "OpcodeForge$Forms", name := "indexed", desc := "(I)V" } : Jvm.MethodName)) ∈ lw_tbl := lw_at lw_m1 207 rfl
theorem q471 : (Jvm.Cond.instanceMethod ({ cls := "OpcodeForge$Forms", name := "indexed", desc := "(I)V" } : Jvm.MethodName)) ∈ lw_all := lw_g (lw_at lw_m1 208 rfl) rfl
theorem q472 : (Jvm.Cond.code ({ cls := "OpcodeForge$Forms", name := "indexed", desc := "(I)V" } : Jvm.MethodName) prog_4_method_17_code (8 : Nat) (Option.none : Option Jvm.ClassFile.FieldType)) ∈ lw_all := lw_g (lw_at lw_m1 209 rfl) rfl
theorem q473 : (Jvm.Cond.methodLink "OpcodeForge$Forms" (98 : Nat) ({ cls := "OpcodeForge$Forms", name := "kindWith", desc := "(IIZ)I" } : Jvm.MethodName)) ∈ lw_all := lw_g (lw_at lw_m1 210 rfl) rfl
theorem q474 : (Jvm.Cond.static ({ cls := "OpcodeForge$Forms", name := "kindWith", desc := "(IIZ)I" } : Jvm.MethodName)) ∈ lw_all := lw_g (lw_at lw_m1 211 rfl) rfl
theorem q475 : (Jvm.Cond.code ({ cls := "OpcodeForge$Forms", name := "kindWith", desc := "(IIZ)I" } : Jvm.MethodName) prog_4_method_18_code (3 : Nat) (Option.some Jvm.ClassFile.FieldType.int)) ∈ lw_all := lw_g (lw_at lw_m1 212 rfl) rfl
theorem q476 : (Jvm.Cond.methodLink "OpcodeForge$Forms" (102 : Nat) ({ cls := "OpcodeForge$Forms", name := "valueWith", desc := "(IIIZ)I" } : Jvm.MethodName)) ∈ lw_all := lw_g (lw_at lw_m1 213 rfl) rfl
theorem q477 : (Jvm.Cond.static ({ cls := "OpcodeForge$Forms", name := "valueWith", desc := "(IIIZ)I" } : Jvm.MethodName)) ∈ lw_all := lw_g (lw_at lw_m1 214 rfl) rfl
theorem q478 : (Jvm.Cond.code ({ cls := "OpcodeForge$Forms", name := "valueWith", desc := "(IIIZ)I" } : Jvm.MethodName) prog_4_method_19_code (4 : Nat) (Option.some Jvm.ClassFile.FieldType.int)) ∈ lw_all := lw_g (lw_at lw_m1 215 rfl) rfl
theorem q479 : (Jvm.Cond.fieldLink "OpcodeForge$Forms" (9 : Nat) "OpcodeForge$Forms" "words" "[I") ∈ lw_all := lw_g (lw_at lw_m1 216 rfl) rfl
theorem q482 : (Jvm.Cond.fieldLink "OpcodeForge$Forms" (15 : Nat) "OpcodeForge$Forms" "kindA" "[I") ∈ lw_all := lw_g (lw_at lw_m1 219 rfl) rfl
theorem q485 : (Jvm.Cond.fieldLink "OpcodeForge$Forms" (18 : Nat) "OpcodeForge$Forms" "valueA" "[I") ∈ lw_all := lw_g (lw_at lw_m1 222 rfl) rfl
theorem q488 : (Jvm.Cond.fieldLink "OpcodeForge$Forms" (21 : Nat) "OpcodeForge$Forms" "kindB" "[I") ∈ lw_all := lw_g (lw_at lw_m1 225 rfl) rfl
theorem q491 : (Jvm.Cond.fieldLink "OpcodeForge$Forms" (24 : Nat) "OpcodeForge$Forms" "valueB" "[I") ∈ lw_all := lw_g (lw_at lw_m1 228 rfl) rfl
theorem q494 : (Jvm.Cond.fieldLink "OpcodeForge$Forms" (27 : Nat) "OpcodeForge$Forms" "prefixes" "[I") ∈ lw_all := lw_g (lw_at lw_m1 231 rfl) rfl
theorem q498 : (Jvm.Cond.fieldLink "OpcodeForge$Forms" (30 : Nat) "OpcodeForge$Forms" "octets" "[I") ∈ lw_all := lw_g (lw_at lw_m1 235 rfl) rfl
theorem q501 : (Jvm.Cond.fieldLink "OpcodeForge$Forms" (46 : Nat) "OpcodeForge$Forms" "count" "I") ∈ lw_all := lw_g (lw_at lw_m1 238 rfl) rfl
theorem q503 : (Jvm.Cond.fieldLink "OpcodeForge$Forms" (33 : Nat) "OpcodeForge$Forms" "found" "[I") ∈ lw_all := lw_g (lw_at lw_m2 0 rfl) rfl
theorem q504 : (Jvm.Cond.laysFinal "OpcodeForge$Forms" "OpcodeForge$Forms" "words" "[I") ∈ lw_all := lw_g (lw_at lw_m2 1 rfl) rfl
theorem q505 : (Jvm.Cond.soleField "OpcodeForge$Forms" "words") ∈ lw_all := lw_g (lw_at lw_m2 2 rfl) rfl
theorem q506 : (Jvm.Cond.laysFinal "OpcodeForge$Forms" "OpcodeForge$Forms" "kindA" "[I") ∈ lw_all := lw_g (lw_at lw_m2 3 rfl) rfl
theorem q507 : (Jvm.Cond.soleField "OpcodeForge$Forms" "kindA") ∈ lw_all := lw_g (lw_at lw_m2 4 rfl) rfl
theorem q508 : (Jvm.Cond.laysFinal "OpcodeForge$Forms" "OpcodeForge$Forms" "valueA" "[I") ∈ lw_all := lw_g (lw_at lw_m2 5 rfl) rfl
theorem q509 : (Jvm.Cond.soleField "OpcodeForge$Forms" "valueA") ∈ lw_all := lw_g (lw_at lw_m2 6 rfl) rfl
theorem q510 : (Jvm.Cond.laysFinal "OpcodeForge$Forms" "OpcodeForge$Forms" "kindB" "[I") ∈ lw_all := lw_g (lw_at lw_m2 7 rfl) rfl
theorem q511 : (Jvm.Cond.soleField "OpcodeForge$Forms" "kindB") ∈ lw_all := lw_g (lw_at lw_m2 8 rfl) rfl
theorem q512 : (Jvm.Cond.laysFinal "OpcodeForge$Forms" "OpcodeForge$Forms" "valueB" "[I") ∈ lw_all := lw_g (lw_at lw_m2 9 rfl) rfl
theorem q513 : (Jvm.Cond.soleField "OpcodeForge$Forms" "valueB") ∈ lw_all := lw_g (lw_at lw_m2 10 rfl) rfl
theorem q514 : (Jvm.Cond.laysFinal "OpcodeForge$Forms" "OpcodeForge$Forms" "prefixes" "[I") ∈ lw_all := lw_g (lw_at lw_m2 11 rfl) rfl
theorem q515 : (Jvm.Cond.soleField "OpcodeForge$Forms" "prefixes") ∈ lw_all := lw_g (lw_at lw_m2 12 rfl) rfl
theorem q516 : (Jvm.Cond.laysFinal "OpcodeForge$Forms" "OpcodeForge$Forms" "octets" "[I") ∈ lw_all := lw_g (lw_at lw_m2 13 rfl) rfl
theorem q517 : (Jvm.Cond.soleField "OpcodeForge$Forms" "octets") ∈ lw_all := lw_g (lw_at lw_m2 14 rfl) rfl
theorem q518 : (Jvm.Cond.lays "OpcodeForge$Forms" "OpcodeForge$Forms" "count" "I") ∈ lw_all := lw_g (lw_at lw_m2 15 rfl) rfl
theorem q519 : (Jvm.Cond.soleField "OpcodeForge$Forms" "count") ∈ lw_all := lw_g (lw_at lw_m2 16 rfl) rfl
theorem q520 : (Jvm.Cond.laysFinal "OpcodeForge$Forms" "OpcodeForge$Forms" "found" "[I") ∈ lw_all := lw_g (lw_at lw_m2 17 rfl) rfl
theorem q521 : (Jvm.Cond.soleField "OpcodeForge$Forms" "found") ∈ lw_all := lw_g (lw_at lw_m2 18 rfl) rfl
theorem q522 : (Jvm.Cond.superclass "OpcodeForge$Forms" "java/lang/Object") ∈ lw_all := lw_g (lw_at lw_m2 19 rfl) rfl
theorem q1312 : (Jvm.Cond.instanceMethod ({ cls := "OpcodeForge$Forms", name := "size", desc := "(I)I" } : Jvm.MethodName)) ∈ lw_all := lw_g (lw_at lw_m5 89 rfl) rfl
theorem q1313 : (Jvm.Cond.selects "OpcodeForge$Forms" ({ cls := "OpcodeForge$Forms", name := "size", desc := "(I)I" } : Jvm.MethodName) ({ cls := "OpcodeForge$Forms", name := "size", desc := "(I)I" } : Jvm.MethodName)) ∈ lw_all := lw_g (lw_at lw_m5 90 rfl) rfl
theorem q1314 : (Jvm.Cond.code ({ cls := "OpcodeForge$Forms", name := "size", desc := "(I)I" } : Jvm.MethodName) prog_4_method_22_code (4 : Nat) (Option.some Jvm.ClassFile.FieldType.int)) ∈ lw_all := lw_g (lw_at lw_m5 91 rfl) rfl
theorem q1315 : (Jvm.Cond.methodLink "OpcodeForge$Forms" (106 : Nat) ({ cls := "OpcodeForge$Forms", name := "hasIndex", desc := "(I)Z" } : Jvm.MethodName)) ∈ lw_all := lw_g (lw_at lw_m5 92 rfl) rfl
theorem q1316 : (Jvm.Cond.instanceMethod ({ cls := "OpcodeForge$Forms", name := "hasIndex", desc := "(I)Z" } : Jvm.MethodName)) ∈ lw_all := lw_g (lw_at lw_m5 93 rfl) rfl
theorem q1317 : (Jvm.Cond.selects "OpcodeForge$Forms" ({ cls := "OpcodeForge$Forms", name := "hasIndex", desc := "(I)Z" } : Jvm.MethodName) ({ cls := "OpcodeForge$Forms", name := "hasIndex", desc := "(I)Z" } : Jvm.MethodName)) ∈ lw_all := lw_g (lw_at lw_m5 94 rfl) rfl
theorem q1318 : (Jvm.Cond.code ({ cls := "OpcodeForge$Forms", name := "hasIndex", desc := "(I)Z" } : Jvm.MethodName) prog_4_method_20_code (2 : Nat) (Option.some Jvm.ClassFile.FieldType.boolean)) ∈ lw_all := lw_g (lw_at lw_m5 95 rfl) rfl
theorem q1319 : (Jvm.Cond.methodLink "OpcodeForge$Forms" (110 : Nat) ({ cls := "OpcodeForge$Forms", name := "behind", desc := "(I)I" } : Jvm.MethodName)) ∈ lw_all := lw_g (lw_at lw_m5 96 rfl) rfl
theorem q1320 : (Jvm.Cond.static ({ cls := "OpcodeForge$Forms", name := "behind", desc := "(I)I" } : Jvm.MethodName)) ∈ lw_all := lw_g (lw_at lw_m5 97 rfl) rfl
theorem q1321 : (Jvm.Cond.code ({ cls := "OpcodeForge$Forms", name := "behind", desc := "(I)I" } : Jvm.MethodName) prog_4_method_21_code (1 : Nat) (Option.some Jvm.ClassFile.FieldType.int)) ∈ lw_all := lw_g (lw_at lw_m5 98 rfl) rfl
theorem q1413 : (Jvm.Cond.instanceMethod ({ cls := "OpcodeForge$Forms", name := "at", desc := "([BI)I" } : Jvm.MethodName)) ∈ lw_all := lw_g (lw_at lw_m5 190 rfl) rfl
theorem q1414 : (Jvm.Cond.selects "OpcodeForge$Forms" ({ cls := "OpcodeForge$Forms", name := "at", desc := "([BI)I" } : Jvm.MethodName) ({ cls := "OpcodeForge$Forms", name := "at", desc := "([BI)I" } : Jvm.MethodName)) ∈ lw_all := lw_g (lw_at lw_m5 191 rfl) rfl
theorem q1415 : (Jvm.Cond.code ({ cls := "OpcodeForge$Forms", name := "at", desc := "([BI)I" } : Jvm.MethodName) prog_4_method_23_code (6 : Nat) (Option.some Jvm.ClassFile.FieldType.int)) ∈ lw_all := lw_g (lw_at lw_m5 192 rfl) rfl
theorem q1416 : (Jvm.Cond.constant "OpcodeForge$Forms" (113 : Nat) (65535 : Int32)) ∈ lw_all := lw_g (lw_at lw_m5 193 rfl) rfl
theorem in_X2 : ∀ w ∈ wsX20, w ∈ lw_all := lw_in wsX20 [504, 506, 508, 510, 512, 514, 516, 518, 520] (by decide +kernel) (by decide +kernel)
def RX3 : String := "OpcodeForge$Assembler"
def TX3 : u_T := fun k => match k with
  | 0 => ("OpcodeForge$Assembler", "words", "LOpcodeForge$Words;", true)
  | 1 => ("OpcodeForge$Assembler", "forms", "LOpcodeForge$Forms;", true)
  | 2 => ("OpcodeForge$Assembler", "t", "LOpcodeForge$Tokens;", true)
  | 3 => ("OpcodeForge$Assembler", "labels", "LOpcodeForge$Labels;", true)
  | 4 => ("OpcodeForge$Assembler", "memory", "[B", true)
  | 5 => ("OpcodeForge$Assembler", "isSecond", "Z", false)
  | 6 => ("OpcodeForge$Assembler", "mustKnow", "Z", false)
  | 7 => ("OpcodeForge$Assembler", "here", "I", false)
  | 8 => ("OpcodeForge$Assembler", "line", "I", false)
  | 9 => ("OpcodeForge$Assembler", "many", "I", false)
  | 10 => ("OpcodeForge$Assembler", "first", "I", false)
  | 11 => ("OpcodeForge$Assembler", "hasFirst", "Z", false)
  | 12 => ("OpcodeForge$Assembler", "wordAt", "I", false)
  | 13 => ("OpcodeForge$Assembler", "sorts", "[I", true)
  | 14 => ("OpcodeForge$Assembler", "names", "[I", true)
  | 15 => ("OpcodeForge$Assembler", "hasValue", "[Z", true)
  | 16 => ("OpcodeForge$Assembler", "isKnown", "[Z", true)
  | 17 => ("OpcodeForge$Assembler", "values", "[I", true)
  | 18 => ("OpcodeForge$Assembler", "valueFroms", "[I", true)
  | 19 => ("OpcodeForge$Assembler", "operands", "I", false)
  | 20 => ("OpcodeForge$Assembler", "isDone", "[Z", true)
  | 21 => ("OpcodeForge$Assembler", "hadElse", "[Z", true)
  | 22 => ("OpcodeForge$Assembler", "isDead", "[Z", true)
  | 23 => ("OpcodeForge$Assembler", "ifs", "I", false)
  | 24 => ("OpcodeForge$Assembler", "known", "Z", false)
  | 25 => ("OpcodeForge$Assembler", "from", "I", false)
  | 26 => ("OpcodeForge$Assembler", "open", "I", false)
  | 27 => ("OpcodeForge$Assembler", "fault", "I", false)
  | 28 => ("OpcodeForge$Assembler", "faultAt", "I", false)
  | _ => ("OpcodeForge$Assembler", "begun", "I", false)
def tyX3 : Nat → FieldType := fun k => match k with
  | 0 => .object "OpcodeForge$Words"
  | 1 => .object "OpcodeForge$Forms"
  | 2 => .object "OpcodeForge$Tokens"
  | 3 => .object "OpcodeForge$Labels"
  | 4 => .array .byte
  | 5 => .boolean
  | 6 => .boolean
  | 7 => .int
  | 8 => .int
  | 9 => .int
  | 10 => .int
  | 11 => .boolean
  | 12 => .int
  | 13 => .array .int
  | 14 => .array .int
  | 15 => .array .boolean
  | 16 => .array .boolean
  | 17 => .array .int
  | 18 => .array .int
  | 19 => .int
  | 20 => .array .boolean
  | 21 => .array .boolean
  | 22 => .array .boolean
  | 23 => .int
  | 24 => .boolean
  | 25 => .int
  | 26 => .int
  | 27 => .int
  | 28 => .int
  | _ => .int
abbrev wsX30 : List Cond := u_ws RX3 TX3 30
theorem nmX3 : ∀ a, a < 30 → ∀ b, b < 30 → a ≠ b → (TX3 a).2.1 ≠ (TX3 b).2.1 := by decide +kernel
theorem tyX3_ok : ∀ k, k < 30 → parseFieldDescriptor (TX3 k).2.2.1 = some (tyX3 k) := by decide +kernel
abbrev cX3_init : ByteArray := prog_2_method_1_code
def yX3_init : MethodName := ⟨RX3, "<init>", "(LOpcodeForge$Words;LOpcodeForge$Forms;)V"⟩
abbrev cX3_forge : ByteArray := prog_2_method_44_code
def yX3_forge : MethodName := ⟨RX3, "forge", "([B)V"⟩
abbrev cX3_pass : ByteArray := prog_2_method_43_code
def yX3_pass : MethodName := ⟨RX3, "pass", "(Z)V"⟩
abbrev cX3_readLine : ByteArray := prog_2_method_42_code
def yX3_readLine : MethodName := ⟨RX3, "readLine", "()V"⟩
abbrev cX3_doLine : ByteArray := prog_2_method_38_code
def yX3_doLine : MethodName := ⟨RX3, "doLine", "()V"⟩
abbrev cX3_tell : ByteArray := prog_2_method_32_code
def yX3_tell : MethodName := ⟨RX3, "tell", "(III)V"⟩
abbrev cX3_statement : ByteArray := prog_2_method_37_code
def yX3_statement : MethodName := ⟨RX3, "statement", "()V"⟩
abbrev cX3_reserved : ByteArray := prog_2_method_2_code
def yX3_reserved : MethodName := ⟨RX3, "reserved", "()I"⟩
abbrev cX3_isEqu : ByteArray := prog_2_method_36_code
def yX3_isEqu : MethodName := ⟨RX3, "isEqu", "(II)Z"⟩
abbrev cX3_knownExp : ByteArray := prog_2_method_13_code
def yX3_knownExp : MethodName := ⟨RX3, "knownExp", "(II)I"⟩
abbrev cX3_exp : ByteArray := prog_2_method_11_code
def yX3_exp : MethodName := ⟨RX3, "exp", "()I"⟩
abbrev cX3_or : ByteArray := prog_2_method_10_code
def yX3_or : MethodName := ⟨RX3, "or", "()I"⟩
abbrev cX3_xor : ByteArray := prog_2_method_9_code
def yX3_xor : MethodName := ⟨RX3, "xor", "()I"⟩
abbrev cX3_and : ByteArray := prog_2_method_8_code
def yX3_and : MethodName := ⟨RX3, "and", "()I"⟩
abbrev cX3_shift : ByteArray := prog_2_method_7_code
def yX3_shift : MethodName := ⟨RX3, "shift", "()I"⟩
abbrev cX3_sum : ByteArray := prog_2_method_6_code
def yX3_sum : MethodName := ⟨RX3, "sum", "()I"⟩
abbrev cX3_term : ByteArray := prog_2_method_5_code
def yX3_term : MethodName := ⟨RX3, "term", "()I"⟩
abbrev cX3_unary : ByteArray := prog_2_method_4_code
def yX3_unary : MethodName := ⟨RX3, "unary", "()I"⟩
abbrev cX3_nest : ByteArray := prog_2_method_12_code
def yX3_nest : MethodName := ⟨RX3, "nest", "()V"⟩
abbrev cX3_name : ByteArray := prog_2_method_3_code
def yX3_name : MethodName := ⟨RX3, "name", "()I"⟩
abbrev cX3_tellFault : ByteArray := prog_2_method_15_code
def yX3_tellFault : MethodName := ⟨RX3, "tellFault", "(II)V"⟩
abbrev cX3_instruction : ByteArray := prog_2_method_28_code
def yX3_instruction : MethodName := ⟨RX3, "instruction", "(I)V"⟩
abbrev cX3_readOperands : ByteArray := prog_2_method_21_code
def yX3_readOperands : MethodName := ⟨RX3, "readOperands", "()V"⟩
abbrev cX3_operand : ByteArray := prog_2_method_20_code
def yX3_operand : MethodName := ⟨RX3, "operand", "()V"⟩
abbrev cX3_place : ByteArray := prog_2_method_19_code
def yX3_place : MethodName := ⟨RX3, "place", "(I)V"⟩
abbrev cX3_indexed : ByteArray := prog_2_method_18_code
def yX3_indexed : MethodName := ⟨RX3, "indexed", "(I)V"⟩
abbrev cX3_value : ByteArray := prog_2_method_17_code
def yX3_value : MethodName := ⟨RX3, "value", "(II)V"⟩
abbrev cX3_checkNumber : ByteArray := prog_2_method_24_code
def yX3_checkNumber : MethodName := ⟨RX3, "checkNumber", "(I)V"⟩
abbrev cX3_inRange : ByteArray := prog_2_method_14_code
def yX3_inRange : MethodName := ⟨RX3, "inRange", "(IIII)V"⟩
abbrev cX3_form : ByteArray := prog_2_method_23_code
def yX3_form : MethodName := ⟨RX3, "form", "(I)I"⟩
abbrev cX3_isFit : ByteArray := prog_2_method_22_code
def yX3_isFit : MethodName := ⟨RX3, "isFit", "(III)Z"⟩
abbrev cX3_checkValue : ByteArray := prog_2_method_25_code
def yX3_checkValue : MethodName := ⟨RX3, "checkValue", "(III)V"⟩
abbrev cX3_lay : ByteArray := prog_2_method_16_code
def yX3_lay : MethodName := ⟨RX3, "lay", "(I)V"⟩
abbrev cX3_indexOf : ByteArray := prog_2_method_27_code
def yX3_indexOf : MethodName := ⟨RX3, "indexOf", "(I)I"⟩
abbrev cX3_layOperand : ByteArray := prog_2_method_26_code
def yX3_layOperand : MethodName := ⟨RX3, "layOperand", "(III)V"⟩
abbrev cX3_data : ByteArray := prog_2_method_30_code
def yX3_data : MethodName := ⟨RX3, "data", "(Z)V"⟩
abbrev cX3_texts : ByteArray := prog_2_method_29_code
def yX3_texts : MethodName := ⟨RX3, "texts", "()V"⟩
abbrev cX3_space : ByteArray := prog_2_method_31_code
def yX3_space : MethodName := ⟨RX3, "space", "()V"⟩
abbrev cX3_conditional : ByteArray := prog_2_method_33_code
def yX3_conditional : MethodName := ⟨RX3, "conditional", "(I)V"⟩
abbrev cX3_begin : ByteArray := prog_2_method_34_code
def yX3_begin : MethodName := ⟨RX3, "begin", "(ZZ)V"⟩
abbrev cX3_otherwise : ByteArray := prog_2_method_35_code
def yX3_otherwise : MethodName := ⟨RX3, "otherwise", "(II)V"⟩
abbrev cX3_lineFault : ByteArray := prog_2_method_39_code
def yX3_lineFault : MethodName := ⟨RX3, "lineFault", "(LOpcodeForge$Fault;)V"⟩
abbrev cX3_skipLine : ByteArray := prog_2_method_41_code
def yX3_skipLine : MethodName := ⟨RX3, "skipLine", "()V"⟩
abbrev cX3_nameEnd : ByteArray := prog_2_method_40_code
def yX3_nameEnd : MethodName := ⟨RX3, "nameEnd", "(I)I"⟩
theorem q267 : (Jvm.Cond.initialized "OpcodeForge$Assembler") ∈ lw_all := lw_g (lw_at lw_m1 4 rfl) rfl
theorem q481 : (Jvm.Cond.fieldLinkNest "OpcodeForge$Assembler" (234 : Nat) "OpcodeForge$Forms" "words" "[I" "OpcodeForge") ∈ lw_tbl := lw_at lw_m1 218 rfl
theorem q484 : (Jvm.Cond.fieldLinkNest "OpcodeForge$Assembler" (236 : Nat) "OpcodeForge$Forms" "kindA" "[I" "OpcodeForge") ∈ lw_tbl := lw_at lw_m1 221 rfl
theorem q487 : (Jvm.Cond.fieldLinkNest "OpcodeForge$Assembler" (239 : Nat) "OpcodeForge$Forms" "valueA" "[I" "OpcodeForge") ∈ lw_tbl := lw_at lw_m1 224 rfl
theorem q490 : (Jvm.Cond.fieldLinkNest "OpcodeForge$Assembler" (246 : Nat) "OpcodeForge$Forms" "kindB" "[I" "OpcodeForge") ∈ lw_tbl := lw_at lw_m1 227 rfl
theorem q493 : (Jvm.Cond.fieldLinkNest "OpcodeForge$Assembler" (249 : Nat) "OpcodeForge$Forms" "valueB" "[I" "OpcodeForge") ∈ lw_tbl := lw_at lw_m1 230 rfl
theorem q496 : (Jvm.Cond.fieldLinkNest "OpcodeForge$Assembler" (279 : Nat) "OpcodeForge$Forms" "prefixes" "[I" "OpcodeForge") ∈ lw_tbl := lw_at lw_m1 233 rfl
theorem q499 : (Jvm.Cond.fieldLinkNest "OpcodeForge$Assembler" (285 : Nat) "OpcodeForge$Forms" "octets" "[I" "OpcodeForge") ∈ lw_tbl := lw_at lw_m1 236 rfl
theorem q502 : (Jvm.Cond.fieldLinkNest "OpcodeForge$Assembler" (229 : Nat) "OpcodeForge$Forms" "count" "I" "OpcodeForge") ∈ lw_tbl := lw_at lw_m1 239 rfl
theorem q525 : (Jvm.Cond.instantiable "OpcodeForge$Assembler" (30 : Nat)) ∈ lw_all := lw_g (lw_at lw_m2 22 rfl) rfl
theorem q527 : (Jvm.Cond.instanceMethod ({ cls := "OpcodeForge$Assembler", name := "<init>", desc := "(LOpcodeForge$Words;LOpcodeForge$Forms;)V" } : Jvm.MethodName)) ∈ lw_all := lw_g (lw_at lw_m2 24 rfl) rfl
theorem q528 : (Jvm.Cond.code ({ cls := "OpcodeForge$Assembler", name := "<init>", desc := "(LOpcodeForge$Words;LOpcodeForge$Forms;)V" } : Jvm.MethodName) prog_2_method_1_code (3 : Nat) (Option.none : Option Jvm.ClassFile.FieldType)) ∈ lw_all := lw_g (lw_at lw_m2 25 rfl) rfl
theorem q529 : (Jvm.Cond.methodLink "OpcodeForge$Assembler" (3 : Nat) ({ cls := "java/lang/Object", name := "<init>", desc := "()V" } : Jvm.MethodName)) ∈ lw_all := lw_g (lw_at lw_m2 26 rfl) rfl
theorem q530 : (Jvm.Cond.classLink "OpcodeForge$Assembler" (9 : Nat) "OpcodeForge$Tokens") ∈ lw_all := lw_g (lw_at lw_m2 27 rfl) rfl
theorem q532 : (Jvm.Cond.methodLinkNest "OpcodeForge$Assembler" (11 : Nat) ({ cls := "OpcodeForge$Tokens", name := "<init>", desc := "()V" } : Jvm.MethodName) "OpcodeForge") ∈ lw_tbl := lw_at lw_m2 29 rfl
theorem q538 : (Jvm.Cond.fieldLinkNest "OpcodeForge$Assembler" (295 : Nat) "OpcodeForge$Tokens" "row" "[B" "OpcodeForge") ∈ lw_tbl := lw_at lw_m2 35 rfl
theorem q541 : (Jvm.Cond.fieldLinkNest "OpcodeForge$Assembler" (377 : Nat) "OpcodeForge$Tokens" "size" "I" "OpcodeForge") ∈ lw_tbl := lw_at lw_m2 38 rfl
theorem q543 : (Jvm.Cond.fieldLinkNest "OpcodeForge$Assembler" (67 : Nat) "OpcodeForge$Tokens" "capitals" "[B" "OpcodeForge") ∈ lw_tbl := lw_at lw_m2 40 rfl
theorem q545 : (Jvm.Cond.fieldLinkNest "OpcodeForge$Assembler" (368 : Nat) "OpcodeForge$Tokens" "at" "I" "OpcodeForge") ∈ lw_tbl := lw_at lw_m2 42 rfl
theorem q547 : (Jvm.Cond.fieldLinkNest "OpcodeForge$Assembler" (379 : Nat) "OpcodeForge$Tokens" "read" "Z" "OpcodeForge") ∈ lw_tbl := lw_at lw_m2 44 rfl
theorem q548 : (Jvm.Cond.fieldLinkNest "OpcodeForge$Assembler" (142 : Nat) "OpcodeForge$Tokens" "kind" "I" "OpcodeForge") ∈ lw_tbl := lw_at lw_m2 45 rfl
theorem q550 : (Jvm.Cond.fieldLinkNest "OpcodeForge$Assembler" (70 : Nat) "OpcodeForge$Tokens" "from" "I" "OpcodeForge") ∈ lw_tbl := lw_at lw_m2 47 rfl
theorem q552 : (Jvm.Cond.fieldLinkNest "OpcodeForge$Assembler" (74 : Nat) "OpcodeForge$Tokens" "length" "I" "OpcodeForge") ∈ lw_tbl := lw_at lw_m2 49 rfl
theorem q554 : (Jvm.Cond.fieldLinkNest "OpcodeForge$Assembler" (122 : Nat) "OpcodeForge$Tokens" "number" "I" "OpcodeForge") ∈ lw_tbl := lw_at lw_m2 51 rfl
theorem q575 : (Jvm.Cond.classLink "OpcodeForge$Assembler" (18 : Nat) "OpcodeForge$Labels") ∈ lw_all := lw_g (lw_at lw_m2 72 rfl) rfl
theorem q577 : (Jvm.Cond.methodLinkNest "OpcodeForge$Assembler" (20 : Nat) ({ cls := "OpcodeForge$Labels", name := "<init>", desc := "()V" } : Jvm.MethodName) "OpcodeForge") ∈ lw_tbl := lw_at lw_m2 74 rfl
theorem q586 : (Jvm.Cond.fieldLinkNest "OpcodeForge$Assembler" (109 : Nat) "OpcodeForge$Labels" "values" "[I" "OpcodeForge") ∈ lw_tbl := lw_at lw_m2 83 rfl
theorem q590 : (Jvm.Cond.fieldLinkNest "OpcodeForge$Assembler" (305 : Nat) "OpcodeForge$Labels" "count" "I" "OpcodeForge") ∈ lw_tbl := lw_at lw_m2 87 rfl
theorem q600 : (Jvm.Cond.constant "OpcodeForge$Assembler" (25 : Nat) (65536 : Int32)) ∈ lw_all := lw_g (lw_at lw_m2 97 rfl) rfl
theorem q601 : (Jvm.Cond.fieldLink "OpcodeForge$Assembler" (59 : Nat) "OpcodeForge$Assembler" "words" "LOpcodeForge$Words;") ∈ lw_all := lw_g (lw_at lw_m2 98 rfl) rfl
theorem q602 : (Jvm.Cond.fieldLink "OpcodeForge$Assembler" (63 : Nat) "OpcodeForge$Assembler" "forms" "LOpcodeForge$Forms;") ∈ lw_all := lw_g (lw_at lw_m2 99 rfl) rfl
theorem q603 : (Jvm.Cond.fieldLink "OpcodeForge$Assembler" (12 : Nat) "OpcodeForge$Assembler" "t" "LOpcodeForge$Tokens;") ∈ lw_all := lw_g (lw_at lw_m2 100 rfl) rfl
theorem q605 : (Jvm.Cond.fieldLink "OpcodeForge$Assembler" (21 : Nat) "OpcodeForge$Assembler" "labels" "LOpcodeForge$Labels;") ∈ lw_all := lw_g (lw_at lw_m2 102 rfl) rfl
theorem q607 : (Jvm.Cond.fieldLink "OpcodeForge$Assembler" (26 : Nat) "OpcodeForge$Assembler" "memory" "[B") ∈ lw_all := lw_g (lw_at lw_m2 104 rfl) rfl
theorem q609 : (Jvm.Cond.fieldLink "OpcodeForge$Assembler" (93 : Nat) "OpcodeForge$Assembler" "isSecond" "Z") ∈ lw_all := lw_g (lw_at lw_m2 106 rfl) rfl
theorem q610 : (Jvm.Cond.fieldLink "OpcodeForge$Assembler" (97 : Nat) "OpcodeForge$Assembler" "mustKnow" "Z") ∈ lw_all := lw_g (lw_at lw_m2 107 rfl) rfl
theorem q612 : (Jvm.Cond.fieldLink "OpcodeForge$Assembler" (177 : Nat) "OpcodeForge$Assembler" "here" "I") ∈ lw_all := lw_g (lw_at lw_m2 109 rfl) rfl
theorem q614 : (Jvm.Cond.fieldLink "OpcodeForge$Assembler" (389 : Nat) "OpcodeForge$Assembler" "line" "I") ∈ lw_all := lw_g (lw_at lw_m2 111 rfl) rfl
theorem q616 : (Jvm.Cond.fieldLink "OpcodeForge$Assembler" (183 : Nat) "OpcodeForge$Assembler" "many" "I") ∈ lw_all := lw_g (lw_at lw_m2 113 rfl) rfl
theorem q618 : (Jvm.Cond.fieldLink "OpcodeForge$Assembler" (180 : Nat) "OpcodeForge$Assembler" "first" "I") ∈ lw_all := lw_g (lw_at lw_m2 115 rfl) rfl
theorem q619 : (Jvm.Cond.fieldLink "OpcodeForge$Assembler" (174 : Nat) "OpcodeForge$Assembler" "hasFirst" "Z") ∈ lw_all := lw_g (lw_at lw_m2 116 rfl) rfl
theorem q620 : (Jvm.Cond.fieldLink "OpcodeForge$Assembler" (269 : Nat) "OpcodeForge$Assembler" "wordAt" "I") ∈ lw_all := lw_g (lw_at lw_m2 117 rfl) rfl
theorem q621 : (Jvm.Cond.fieldLink "OpcodeForge$Assembler" (30 : Nat) "OpcodeForge$Assembler" "sorts" "[I") ∈ lw_all := lw_g (lw_at lw_m2 118 rfl) rfl
theorem q622 : (Jvm.Cond.fieldLink "OpcodeForge$Assembler" (34 : Nat) "OpcodeForge$Assembler" "names" "[I") ∈ lw_all := lw_g (lw_at lw_m2 119 rfl) rfl
theorem q623 : (Jvm.Cond.fieldLink "OpcodeForge$Assembler" (37 : Nat) "OpcodeForge$Assembler" "hasValue" "[Z") ∈ lw_all := lw_g (lw_at lw_m2 120 rfl) rfl
theorem q624 : (Jvm.Cond.fieldLink "OpcodeForge$Assembler" (41 : Nat) "OpcodeForge$Assembler" "isKnown" "[Z") ∈ lw_all := lw_g (lw_at lw_m2 121 rfl) rfl
theorem q625 : (Jvm.Cond.fieldLink "OpcodeForge$Assembler" (44 : Nat) "OpcodeForge$Assembler" "values" "[I") ∈ lw_all := lw_g (lw_at lw_m2 122 rfl) rfl
theorem q626 : (Jvm.Cond.fieldLink "OpcodeForge$Assembler" (47 : Nat) "OpcodeForge$Assembler" "valueFroms" "[I") ∈ lw_all := lw_g (lw_at lw_m2 123 rfl) rfl
theorem q627 : (Jvm.Cond.fieldLink "OpcodeForge$Assembler" (195 : Nat) "OpcodeForge$Assembler" "operands" "I") ∈ lw_all := lw_g (lw_at lw_m2 124 rfl) rfl
theorem q628 : (Jvm.Cond.fieldLink "OpcodeForge$Assembler" (50 : Nat) "OpcodeForge$Assembler" "isDone" "[Z") ∈ lw_all := lw_g (lw_at lw_m2 125 rfl) rfl
theorem q629 : (Jvm.Cond.fieldLink "OpcodeForge$Assembler" (53 : Nat) "OpcodeForge$Assembler" "hadElse" "[Z") ∈ lw_all := lw_g (lw_at lw_m2 126 rfl) rfl
theorem q630 : (Jvm.Cond.fieldLink "OpcodeForge$Assembler" (56 : Nat) "OpcodeForge$Assembler" "isDead" "[Z") ∈ lw_all := lw_g (lw_at lw_m2 127 rfl) rfl
theorem q631 : (Jvm.Cond.fieldLink "OpcodeForge$Assembler" (310 : Nat) "OpcodeForge$Assembler" "ifs" "I") ∈ lw_all := lw_g (lw_at lw_m2 128 rfl) rfl
theorem q632 : (Jvm.Cond.fieldLink "OpcodeForge$Assembler" (103 : Nat) "OpcodeForge$Assembler" "known" "Z") ∈ lw_all := lw_g (lw_at lw_m2 129 rfl) rfl
theorem q633 : (Jvm.Cond.fieldLink "OpcodeForge$Assembler" (160 : Nat) "OpcodeForge$Assembler" "from" "I") ∈ lw_all := lw_g (lw_at lw_m2 130 rfl) rfl
theorem q634 : (Jvm.Cond.fieldLink "OpcodeForge$Assembler" (119 : Nat) "OpcodeForge$Assembler" "open" "I") ∈ lw_all := lw_g (lw_at lw_m2 131 rfl) rfl
theorem q635 : (Jvm.Cond.fieldLink "OpcodeForge$Assembler" (168 : Nat) "OpcodeForge$Assembler" "fault" "I") ∈ lw_all := lw_g (lw_at lw_m2 132 rfl) rfl
theorem q636 : (Jvm.Cond.fieldLink "OpcodeForge$Assembler" (171 : Nat) "OpcodeForge$Assembler" "faultAt" "I") ∈ lw_all := lw_g (lw_at lw_m2 133 rfl) rfl
theorem q637 : (Jvm.Cond.fieldLink "OpcodeForge$Assembler" (128 : Nat) "OpcodeForge$Assembler" "begun" "I") ∈ lw_all := lw_g (lw_at lw_m2 134 rfl) rfl
theorem q638 : (Jvm.Cond.laysFinal "OpcodeForge$Assembler" "OpcodeForge$Assembler" "words" "LOpcodeForge$Words;") ∈ lw_all := lw_g (lw_at lw_m2 135 rfl) rfl
theorem q639 : (Jvm.Cond.soleField "OpcodeForge$Assembler" "words") ∈ lw_all := lw_g (lw_at lw_m2 136 rfl) rfl
theorem q640 : (Jvm.Cond.laysFinal "OpcodeForge$Assembler" "OpcodeForge$Assembler" "forms" "LOpcodeForge$Forms;") ∈ lw_all := lw_g (lw_at lw_m2 137 rfl) rfl
theorem q641 : (Jvm.Cond.soleField "OpcodeForge$Assembler" "forms") ∈ lw_all := lw_g (lw_at lw_m2 138 rfl) rfl
theorem q642 : (Jvm.Cond.laysFinal "OpcodeForge$Assembler" "OpcodeForge$Assembler" "t" "LOpcodeForge$Tokens;") ∈ lw_all := lw_g (lw_at lw_m2 139 rfl) rfl
theorem q643 : (Jvm.Cond.soleField "OpcodeForge$Assembler" "t") ∈ lw_all := lw_g (lw_at lw_m2 140 rfl) rfl
theorem q644 : (Jvm.Cond.laysFinal "OpcodeForge$Assembler" "OpcodeForge$Assembler" "labels" "LOpcodeForge$Labels;") ∈ lw_all := lw_g (lw_at lw_m2 141 rfl) rfl
theorem q645 : (Jvm.Cond.soleField "OpcodeForge$Assembler" "labels") ∈ lw_all := lw_g (lw_at lw_m2 142 rfl) rfl
theorem q646 : (Jvm.Cond.laysFinal "OpcodeForge$Assembler" "OpcodeForge$Assembler" "memory" "[B") ∈ lw_all := lw_g (lw_at lw_m2 143 rfl) rfl
theorem q647 : (Jvm.Cond.soleField "OpcodeForge$Assembler" "memory") ∈ lw_all := lw_g (lw_at lw_m2 144 rfl) rfl
theorem q648 : (Jvm.Cond.lays "OpcodeForge$Assembler" "OpcodeForge$Assembler" "isSecond" "Z") ∈ lw_all := lw_g (lw_at lw_m2 145 rfl) rfl
theorem q649 : (Jvm.Cond.soleField "OpcodeForge$Assembler" "isSecond") ∈ lw_all := lw_g (lw_at lw_m2 146 rfl) rfl
theorem q650 : (Jvm.Cond.lays "OpcodeForge$Assembler" "OpcodeForge$Assembler" "mustKnow" "Z") ∈ lw_all := lw_g (lw_at lw_m2 147 rfl) rfl
theorem q651 : (Jvm.Cond.soleField "OpcodeForge$Assembler" "mustKnow") ∈ lw_all := lw_g (lw_at lw_m2 148 rfl) rfl
theorem q652 : (Jvm.Cond.lays "OpcodeForge$Assembler" "OpcodeForge$Assembler" "here" "I") ∈ lw_all := lw_g (lw_at lw_m2 149 rfl) rfl
theorem q653 : (Jvm.Cond.soleField "OpcodeForge$Assembler" "here") ∈ lw_all := lw_g (lw_at lw_m2 150 rfl) rfl
theorem q654 : (Jvm.Cond.lays "OpcodeForge$Assembler" "OpcodeForge$Assembler" "line" "I") ∈ lw_all := lw_g (lw_at lw_m2 151 rfl) rfl
theorem q655 : (Jvm.Cond.soleField "OpcodeForge$Assembler" "line") ∈ lw_all := lw_g (lw_at lw_m2 152 rfl) rfl
theorem q656 : (Jvm.Cond.lays "OpcodeForge$Assembler" "OpcodeForge$Assembler" "many" "I") ∈ lw_all := lw_g (lw_at lw_m2 153 rfl) rfl
theorem q657 : (Jvm.Cond.soleField "OpcodeForge$Assembler" "many") ∈ lw_all := lw_g (lw_at lw_m2 154 rfl) rfl
theorem q658 : (Jvm.Cond.lays "OpcodeForge$Assembler" "OpcodeForge$Assembler" "first" "I") ∈ lw_all := lw_g (lw_at lw_m2 155 rfl) rfl
theorem q659 : (Jvm.Cond.soleField "OpcodeForge$Assembler" "first") ∈ lw_all := lw_g (lw_at lw_m2 156 rfl) rfl
theorem q660 : (Jvm.Cond.lays "OpcodeForge$Assembler" "OpcodeForge$Assembler" "hasFirst" "Z") ∈ lw_all := lw_g (lw_at lw_m2 157 rfl) rfl
theorem q661 : (Jvm.Cond.soleField "OpcodeForge$Assembler" "hasFirst") ∈ lw_all := lw_g (lw_at lw_m2 158 rfl) rfl
theorem q662 : (Jvm.Cond.lays "OpcodeForge$Assembler" "OpcodeForge$Assembler" "wordAt" "I") ∈ lw_all := lw_g (lw_at lw_m2 159 rfl) rfl
theorem q663 : (Jvm.Cond.soleField "OpcodeForge$Assembler" "wordAt") ∈ lw_all := lw_g (lw_at lw_m2 160 rfl) rfl
theorem q664 : (Jvm.Cond.laysFinal "OpcodeForge$Assembler" "OpcodeForge$Assembler" "sorts" "[I") ∈ lw_all := lw_g (lw_at lw_m2 161 rfl) rfl
theorem q665 : (Jvm.Cond.soleField "OpcodeForge$Assembler" "sorts") ∈ lw_all := lw_g (lw_at lw_m2 162 rfl) rfl
theorem q666 : (Jvm.Cond.laysFinal "OpcodeForge$Assembler" "OpcodeForge$Assembler" "names" "[I") ∈ lw_all := lw_g (lw_at lw_m2 163 rfl) rfl
theorem q667 : (Jvm.Cond.soleField "OpcodeForge$Assembler" "names") ∈ lw_all := lw_g (lw_at lw_m2 164 rfl) rfl
theorem q668 : (Jvm.Cond.laysFinal "OpcodeForge$Assembler" "OpcodeForge$Assembler" "hasValue" "[Z") ∈ lw_all := lw_g (lw_at lw_m2 165 rfl) rfl
theorem q669 : (Jvm.Cond.soleField "OpcodeForge$Assembler" "hasValue") ∈ lw_all := lw_g (lw_at lw_m2 166 rfl) rfl
theorem q670 : (Jvm.Cond.laysFinal "OpcodeForge$Assembler" "OpcodeForge$Assembler" "isKnown" "[Z") ∈ lw_all := lw_g (lw_at lw_m2 167 rfl) rfl
theorem q671 : (Jvm.Cond.soleField "OpcodeForge$Assembler" "isKnown") ∈ lw_all := lw_g (lw_at lw_m2 168 rfl) rfl
theorem q672 : (Jvm.Cond.laysFinal "OpcodeForge$Assembler" "OpcodeForge$Assembler" "values" "[I") ∈ lw_all := lw_g (lw_at lw_m2 169 rfl) rfl
theorem q673 : (Jvm.Cond.soleField "OpcodeForge$Assembler" "values") ∈ lw_all := lw_g (lw_at lw_m2 170 rfl) rfl
theorem q674 : (Jvm.Cond.laysFinal "OpcodeForge$Assembler" "OpcodeForge$Assembler" "valueFroms" "[I") ∈ lw_all := lw_g (lw_at lw_m2 171 rfl) rfl
theorem q675 : (Jvm.Cond.soleField "OpcodeForge$Assembler" "valueFroms") ∈ lw_all := lw_g (lw_at lw_m2 172 rfl) rfl
theorem q676 : (Jvm.Cond.lays "OpcodeForge$Assembler" "OpcodeForge$Assembler" "operands" "I") ∈ lw_all := lw_g (lw_at lw_m2 173 rfl) rfl
theorem q677 : (Jvm.Cond.soleField "OpcodeForge$Assembler" "operands") ∈ lw_all := lw_g (lw_at lw_m2 174 rfl) rfl
theorem q678 : (Jvm.Cond.laysFinal "OpcodeForge$Assembler" "OpcodeForge$Assembler" "isDone" "[Z") ∈ lw_all := lw_g (lw_at lw_m2 175 rfl) rfl
theorem q679 : (Jvm.Cond.soleField "OpcodeForge$Assembler" "isDone") ∈ lw_all := lw_g (lw_at lw_m2 176 rfl) rfl
theorem q680 : (Jvm.Cond.laysFinal "OpcodeForge$Assembler" "OpcodeForge$Assembler" "hadElse" "[Z") ∈ lw_all := lw_g (lw_at lw_m2 177 rfl) rfl
theorem q681 : (Jvm.Cond.soleField "OpcodeForge$Assembler" "hadElse") ∈ lw_all := lw_g (lw_at lw_m2 178 rfl) rfl
theorem q682 : (Jvm.Cond.laysFinal "OpcodeForge$Assembler" "OpcodeForge$Assembler" "isDead" "[Z") ∈ lw_all := lw_g (lw_at lw_m2 179 rfl) rfl
theorem q683 : (Jvm.Cond.soleField "OpcodeForge$Assembler" "isDead") ∈ lw_all := lw_g (lw_at lw_m2 180 rfl) rfl
theorem q684 : (Jvm.Cond.lays "OpcodeForge$Assembler" "OpcodeForge$Assembler" "ifs" "I") ∈ lw_all := lw_g (lw_at lw_m2 181 rfl) rfl
theorem q685 : (Jvm.Cond.soleField "OpcodeForge$Assembler" "ifs") ∈ lw_all := lw_g (lw_at lw_m2 182 rfl) rfl
theorem q686 : (Jvm.Cond.lays "OpcodeForge$Assembler" "OpcodeForge$Assembler" "known" "Z") ∈ lw_all := lw_g (lw_at lw_m2 183 rfl) rfl
theorem q687 : (Jvm.Cond.soleField "OpcodeForge$Assembler" "known") ∈ lw_all := lw_g (lw_at lw_m2 184 rfl) rfl
theorem q688 : (Jvm.Cond.lays "OpcodeForge$Assembler" "OpcodeForge$Assembler" "from" "I") ∈ lw_all := lw_g (lw_at lw_m2 185 rfl) rfl
theorem q689 : (Jvm.Cond.soleField "OpcodeForge$Assembler" "from") ∈ lw_all := lw_g (lw_at lw_m2 186 rfl) rfl
theorem q690 : (Jvm.Cond.lays "OpcodeForge$Assembler" "OpcodeForge$Assembler" "open" "I") ∈ lw_all := lw_g (lw_at lw_m2 187 rfl) rfl
theorem q691 : (Jvm.Cond.soleField "OpcodeForge$Assembler" "open") ∈ lw_all := lw_g (lw_at lw_m2 188 rfl) rfl
theorem q692 : (Jvm.Cond.lays "OpcodeForge$Assembler" "OpcodeForge$Assembler" "fault" "I") ∈ lw_all := lw_g (lw_at lw_m2 189 rfl) rfl
theorem q693 : (Jvm.Cond.soleField "OpcodeForge$Assembler" "fault") ∈ lw_all := lw_g (lw_at lw_m2 190 rfl) rfl
theorem q694 : (Jvm.Cond.lays "OpcodeForge$Assembler" "OpcodeForge$Assembler" "faultAt" "I") ∈ lw_all := lw_g (lw_at lw_m2 191 rfl) rfl
theorem q695 : (Jvm.Cond.soleField "OpcodeForge$Assembler" "faultAt") ∈ lw_all := lw_g (lw_at lw_m2 192 rfl) rfl
theorem q696 : (Jvm.Cond.lays "OpcodeForge$Assembler" "OpcodeForge$Assembler" "begun" "I") ∈ lw_all := lw_g (lw_at lw_m2 193 rfl) rfl
theorem q697 : (Jvm.Cond.soleField "OpcodeForge$Assembler" "begun") ∈ lw_all := lw_g (lw_at lw_m2 194 rfl) rfl
theorem q698 : (Jvm.Cond.superclass "OpcodeForge$Assembler" "java/lang/Object") ∈ lw_all := lw_g (lw_at lw_m2 195 rfl) rfl
theorem q865 : (Jvm.Cond.instanceMethod ({ cls := "OpcodeForge$Assembler", name := "forge", desc := "([B)V" } : Jvm.MethodName)) ∈ lw_all := lw_g (lw_at lw_m3 122 rfl) rfl
theorem q866 : (Jvm.Cond.selects "OpcodeForge$Assembler" ({ cls := "OpcodeForge$Assembler", name := "forge", desc := "([B)V" } : Jvm.MethodName) ({ cls := "OpcodeForge$Assembler", name := "forge", desc := "([B)V" } : Jvm.MethodName)) ∈ lw_all := lw_g (lw_at lw_m3 123 rfl) rfl
theorem q867 : (Jvm.Cond.code ({ cls := "OpcodeForge$Assembler", name := "forge", desc := "([B)V" } : Jvm.MethodName) prog_2_method_44_code (2 : Nat) (Option.none : Option Jvm.ClassFile.FieldType)) ∈ lw_all := lw_g (lw_at lw_m3 124 rfl) rfl
theorem q868 : (Jvm.Cond.methodLink "OpcodeForge$Assembler" (403 : Nat) ({ cls := "OpcodeForge$Assembler", name := "pass", desc := "(Z)V" } : Jvm.MethodName)) ∈ lw_all := lw_g (lw_at lw_m3 125 rfl) rfl
theorem q869 : (Jvm.Cond.privateMethod ({ cls := "OpcodeForge$Assembler", name := "pass", desc := "(Z)V" } : Jvm.MethodName)) ∈ lw_tbl := lw_at lw_m3 126 rfl
theorem q870 : (Jvm.Cond.instanceMethod ({ cls := "OpcodeForge$Assembler", name := "pass", desc := "(Z)V" } : Jvm.MethodName)) ∈ lw_all := lw_g (lw_at lw_m3 127 rfl) rfl
theorem q871 : (Jvm.Cond.code ({ cls := "OpcodeForge$Assembler", name := "pass", desc := "(Z)V" } : Jvm.MethodName) prog_2_method_43_code (3 : Nat) (Option.none : Option Jvm.ClassFile.FieldType)) ∈ lw_all := lw_g (lw_at lw_m3 128 rfl) rfl
theorem q872 : (Jvm.Cond.methodLink "OpcodeForge$Assembler" (392 : Nat) ({ cls := "OpcodeForge$Tokens", name := "begin", desc := "()V" } : Jvm.MethodName)) ∈ lw_all := lw_g (lw_at lw_m3 129 rfl) rfl
theorem q876 : (Jvm.Cond.classLink "OpcodeForge$Assembler" (87 : Nat) "OpcodeForge$Fault") ∈ lw_all := lw_g (lw_at lw_m3 133 rfl) rfl
theorem q915 : (Jvm.Cond.methodLink "OpcodeForge$Assembler" (89 : Nat) ({ cls := "OpcodeForge$Fault", name := "<init>", desc := "(II)V" } : Jvm.MethodName)) ∈ lw_all := lw_g (lw_at lw_m3 172 rfl) rfl
theorem q927 : (Jvm.Cond.fieldLinkNest "OpcodeForge$Assembler" (356 : Nat) "OpcodeForge$Fault" "number" "I" "OpcodeForge") ∈ lw_tbl := lw_at lw_m3 184 rfl
theorem q930 : (Jvm.Cond.fieldLinkNest "OpcodeForge$Assembler" (357 : Nat) "OpcodeForge$Fault" "place" "I" "OpcodeForge") ∈ lw_tbl := lw_at lw_m3 187 rfl
theorem q947 : (Jvm.Cond.methodLink "OpcodeForge$Assembler" (394 : Nat) ({ cls := "OpcodeForge$Assembler", name := "readLine", desc := "()V" } : Jvm.MethodName)) ∈ lw_all := lw_g (lw_at lw_m3 204 rfl) rfl
theorem q948 : (Jvm.Cond.privateMethod ({ cls := "OpcodeForge$Assembler", name := "readLine", desc := "()V" } : Jvm.MethodName)) ∈ lw_tbl := lw_at lw_m3 205 rfl
theorem q949 : (Jvm.Cond.instanceMethod ({ cls := "OpcodeForge$Assembler", name := "readLine", desc := "()V" } : Jvm.MethodName)) ∈ lw_all := lw_g (lw_at lw_m3 206 rfl) rfl
theorem q950 : (Jvm.Cond.codeWith ({ cls := "OpcodeForge$Assembler", name := "readLine", desc := "()V" } : Jvm.MethodName) prog_2_method_42_code (2 : Nat) (Option.none : Option Jvm.ClassFile.FieldType) [((0 : Nat), (4 : Nat), (7 : Nat), (87 : Nat))]) ∈ lw_all := lw_g (lw_at lw_m3 207 rfl) rfl
theorem q951 : (Jvm.Cond.methodLink "OpcodeForge$Assembler" (382 : Nat) ({ cls := "OpcodeForge$Assembler", name := "doLine", desc := "()V" } : Jvm.MethodName)) ∈ lw_all := lw_g (lw_at lw_m3 208 rfl) rfl
theorem q952 : (Jvm.Cond.privateMethod ({ cls := "OpcodeForge$Assembler", name := "doLine", desc := "()V" } : Jvm.MethodName)) ∈ lw_tbl := lw_at lw_m3 209 rfl
theorem q953 : (Jvm.Cond.instanceMethod ({ cls := "OpcodeForge$Assembler", name := "doLine", desc := "()V" } : Jvm.MethodName)) ∈ lw_all := lw_g (lw_at lw_m3 210 rfl) rfl
theorem q954 : (Jvm.Cond.code ({ cls := "OpcodeForge$Assembler", name := "doLine", desc := "()V" } : Jvm.MethodName) prog_2_method_38_code (4 : Nat) (Option.none : Option Jvm.ClassFile.FieldType)) ∈ lw_all := lw_g (lw_at lw_m3 211 rfl) rfl
theorem q955 : (Jvm.Cond.methodLink "OpcodeForge$Assembler" (110 : Nat) ({ cls := "OpcodeForge$Tokens", name := "look", desc := "()I" } : Jvm.MethodName)) ∈ lw_all := lw_g (lw_at lw_m3 212 rfl) rfl
theorem q1098 : (Jvm.Cond.methodLink "OpcodeForge$Assembler" (106 : Nat) ({ cls := "OpcodeForge$Tokens", name := "pass", desc := "()V" } : Jvm.MethodName)) ∈ lw_all := lw_g (lw_at lw_m4 115 rfl) rfl
theorem q1102 : (Jvm.Cond.methodLink "OpcodeForge$Assembler" (347 : Nat) ({ cls := "OpcodeForge$Tokens", name := "isBefore", desc := "(I)Z" } : Jvm.MethodName)) ∈ lw_all := lw_g (lw_at lw_m4 119 rfl) rfl
theorem q1110 : (Jvm.Cond.methodLink "OpcodeForge$Assembler" (327 : Nat) ({ cls := "OpcodeForge$Assembler", name := "tell", desc := "(III)V" } : Jvm.MethodName)) ∈ lw_all := lw_g (lw_at lw_m4 127 rfl) rfl
theorem q1111 : (Jvm.Cond.privateMethod ({ cls := "OpcodeForge$Assembler", name := "tell", desc := "(III)V" } : Jvm.MethodName)) ∈ lw_tbl := lw_at lw_m4 128 rfl
theorem q1112 : (Jvm.Cond.instanceMethod ({ cls := "OpcodeForge$Assembler", name := "tell", desc := "(III)V" } : Jvm.MethodName)) ∈ lw_all := lw_g (lw_at lw_m4 129 rfl) rfl
theorem q1113 : (Jvm.Cond.code ({ cls := "OpcodeForge$Assembler", name := "tell", desc := "(III)V" } : Jvm.MethodName) prog_2_method_32_code (4 : Nat) (Option.none : Option Jvm.ClassFile.FieldType)) ∈ lw_all := lw_g (lw_at lw_m4 130 rfl) rfl
theorem q1114 : (Jvm.Cond.methodLink "OpcodeForge$Assembler" (77 : Nat) ({ cls := "OpcodeForge$Words", name := "find", desc := "([BII)I" } : Jvm.MethodName)) ∈ lw_all := lw_g (lw_at lw_m4 131 rfl) rfl
theorem q1142 : (Jvm.Cond.methodLink "OpcodeForge$Assembler" (92 : Nat) ({ cls := "OpcodeForge$Labels", name := "find", desc := "([BII)I" } : Jvm.MethodName)) ∈ lw_all := lw_g (lw_at lw_m4 159 rfl) rfl
theorem q1150 : (Jvm.Cond.methodLink "OpcodeForge$Assembler" (306 : Nat) ({ cls := "OpcodeForge$Labels", name := "add", desc := "([BIII)V" } : Jvm.MethodName)) ∈ lw_all := lw_g (lw_at lw_m4 167 rfl) rfl
theorem q1157 : (Jvm.Cond.methodLink "OpcodeForge$Assembler" (350 : Nat) ({ cls := "OpcodeForge$Tokens", name := "back", desc := "(I)V" } : Jvm.MethodName)) ∈ lw_all := lw_g (lw_at lw_m4 174 rfl) rfl
theorem q1161 : (Jvm.Cond.methodLink "OpcodeForge$Assembler" (353 : Nat) ({ cls := "OpcodeForge$Assembler", name := "statement", desc := "()V" } : Jvm.MethodName)) ∈ lw_all := lw_g (lw_at lw_m4 178 rfl) rfl
theorem q1162 : (Jvm.Cond.privateMethod ({ cls := "OpcodeForge$Assembler", name := "statement", desc := "()V" } : Jvm.MethodName)) ∈ lw_tbl := lw_at lw_m4 179 rfl
theorem q1163 : (Jvm.Cond.instanceMethod ({ cls := "OpcodeForge$Assembler", name := "statement", desc := "()V" } : Jvm.MethodName)) ∈ lw_all := lw_g (lw_at lw_m4 180 rfl) rfl
theorem q1164 : (Jvm.Cond.code ({ cls := "OpcodeForge$Assembler", name := "statement", desc := "()V" } : Jvm.MethodName) prog_2_method_37_code (3 : Nat) (Option.none : Option Jvm.ClassFile.FieldType)) ∈ lw_all := lw_g (lw_at lw_m4 181 rfl) rfl
theorem q1165 : (Jvm.Cond.methodLink "OpcodeForge$Assembler" (208 : Nat) ({ cls := "OpcodeForge$Tokens", name := "isEnd", desc := "()Z" } : Jvm.MethodName)) ∈ lw_all := lw_g (lw_at lw_m4 182 rfl) rfl
theorem q1170 : (Jvm.Cond.methodLink "OpcodeForge$Assembler" (138 : Nat) ({ cls := "OpcodeForge$Tokens", name := "wrong", desc := "()LOpcodeForge$Fault;" } : Jvm.MethodName)) ∈ lw_all := lw_g (lw_at lw_m4 187 rfl) rfl
theorem q1176 : (Jvm.Cond.methodLink "OpcodeForge$Assembler" (83 : Nat) ({ cls := "OpcodeForge$Assembler", name := "reserved", desc := "()I" } : Jvm.MethodName)) ∈ lw_all := lw_g (lw_at lw_m4 193 rfl) rfl
theorem q1177 : (Jvm.Cond.privateMethod ({ cls := "OpcodeForge$Assembler", name := "reserved", desc := "()I" } : Jvm.MethodName)) ∈ lw_tbl := lw_at lw_m4 194 rfl
theorem q1178 : (Jvm.Cond.instanceMethod ({ cls := "OpcodeForge$Assembler", name := "reserved", desc := "()I" } : Jvm.MethodName)) ∈ lw_all := lw_g (lw_at lw_m4 195 rfl) rfl
theorem q1179 : (Jvm.Cond.code ({ cls := "OpcodeForge$Assembler", name := "reserved", desc := "()I" } : Jvm.MethodName) prog_2_method_2_code (1 : Nat) (Option.some Jvm.ClassFile.FieldType.int)) ∈ lw_all := lw_g (lw_at lw_m4 196 rfl) rfl
theorem q1180 : (Jvm.Cond.methodLink "OpcodeForge$Assembler" (330 : Nat) ({ cls := "OpcodeForge$Assembler", name := "isEqu", desc := "(II)Z" } : Jvm.MethodName)) ∈ lw_all := lw_g (lw_at lw_m4 197 rfl) rfl
theorem q1181 : (Jvm.Cond.privateMethod ({ cls := "OpcodeForge$Assembler", name := "isEqu", desc := "(II)Z" } : Jvm.MethodName)) ∈ lw_tbl := lw_at lw_m4 198 rfl
theorem q1182 : (Jvm.Cond.instanceMethod ({ cls := "OpcodeForge$Assembler", name := "isEqu", desc := "(II)Z" } : Jvm.MethodName)) ∈ lw_all := lw_g (lw_at lw_m4 199 rfl) rfl
theorem q1183 : (Jvm.Cond.code ({ cls := "OpcodeForge$Assembler", name := "isEqu", desc := "(II)Z" } : Jvm.MethodName) prog_2_method_36_code (5 : Nat) (Option.some Jvm.ClassFile.FieldType.boolean)) ∈ lw_all := lw_g (lw_at lw_m4 200 rfl) rfl
theorem q1184 : (Jvm.Cond.methodLink "OpcodeForge$Assembler" (324 : Nat) ({ cls := "OpcodeForge$Tokens", name := "isBeforeEqu", desc := "()Z" } : Jvm.MethodName)) ∈ lw_all := lw_g (lw_at lw_m4 201 rfl) rfl
theorem q1188 : (Jvm.Cond.constant "OpcodeForge$Assembler" (315 : Nat) (-2147483648 : Int32)) ∈ lw_all := lw_g (lw_at lw_m4 205 rfl) rfl
theorem q1189 : (Jvm.Cond.constant "OpcodeForge$Assembler" (316 : Nat) (2147483647 : Int32)) ∈ lw_all := lw_g (lw_at lw_m4 206 rfl) rfl
theorem q1190 : (Jvm.Cond.methodLink "OpcodeForge$Assembler" (301 : Nat) ({ cls := "OpcodeForge$Assembler", name := "knownExp", desc := "(II)I" } : Jvm.MethodName)) ∈ lw_all := lw_g (lw_at lw_m4 207 rfl) rfl
theorem q1191 : (Jvm.Cond.privateMethod ({ cls := "OpcodeForge$Assembler", name := "knownExp", desc := "(II)I" } : Jvm.MethodName)) ∈ lw_tbl := lw_at lw_m4 208 rfl
theorem q1192 : (Jvm.Cond.instanceMethod ({ cls := "OpcodeForge$Assembler", name := "knownExp", desc := "(II)I" } : Jvm.MethodName)) ∈ lw_all := lw_g (lw_at lw_m4 209 rfl) rfl
theorem q1193 : (Jvm.Cond.code ({ cls := "OpcodeForge$Assembler", name := "knownExp", desc := "(II)I" } : Jvm.MethodName) prog_2_method_13_code (4 : Nat) (Option.some Jvm.ClassFile.FieldType.int)) ∈ lw_all := lw_g (lw_at lw_m4 210 rfl) rfl
theorem q1194 : (Jvm.Cond.methodLink "OpcodeForge$Assembler" (161 : Nat) ({ cls := "OpcodeForge$Assembler", name := "exp", desc := "()I" } : Jvm.MethodName)) ∈ lw_all := lw_g (lw_at lw_m4 211 rfl) rfl
theorem q1195 : (Jvm.Cond.privateMethod ({ cls := "OpcodeForge$Assembler", name := "exp", desc := "()I" } : Jvm.MethodName)) ∈ lw_tbl := lw_at lw_m4 212 rfl
theorem q1196 : (Jvm.Cond.instanceMethod ({ cls := "OpcodeForge$Assembler", name := "exp", desc := "()I" } : Jvm.MethodName)) ∈ lw_all := lw_g (lw_at lw_m4 213 rfl) rfl
theorem q1197 : (Jvm.Cond.code ({ cls := "OpcodeForge$Assembler", name := "exp", desc := "()I" } : Jvm.MethodName) prog_2_method_11_code (2 : Nat) (Option.some Jvm.ClassFile.FieldType.int)) ∈ lw_all := lw_g (lw_at lw_m4 214 rfl) rfl
theorem q1198 : (Jvm.Cond.methodLink "OpcodeForge$Assembler" (131 : Nat) ({ cls := "OpcodeForge$Assembler", name := "or", desc := "()I" } : Jvm.MethodName)) ∈ lw_all := lw_g (lw_at lw_m4 215 rfl) rfl
theorem q1199 : (Jvm.Cond.privateMethod ({ cls := "OpcodeForge$Assembler", name := "or", desc := "()I" } : Jvm.MethodName)) ∈ lw_tbl := lw_at lw_m4 216 rfl
theorem q1200 : (Jvm.Cond.instanceMethod ({ cls := "OpcodeForge$Assembler", name := "or", desc := "()I" } : Jvm.MethodName)) ∈ lw_all := lw_g (lw_at lw_m4 217 rfl) rfl
theorem q1201 : (Jvm.Cond.code ({ cls := "OpcodeForge$Assembler", name := "or", desc := "()I" } : Jvm.MethodName) prog_2_method_10_code (2 : Nat) (Option.some Jvm.ClassFile.FieldType.int)) ∈ lw_all := lw_g (lw_at lw_m4 218 rfl) rfl
theorem q1202 : (Jvm.Cond.methodLink "OpcodeForge$Assembler" (157 : Nat) ({ cls := "OpcodeForge$Assembler", name := "xor", desc := "()I" } : Jvm.MethodName)) ∈ lw_all := lw_g (lw_at lw_m4 219 rfl) rfl
theorem q1203 : (Jvm.Cond.privateMethod ({ cls := "OpcodeForge$Assembler", name := "xor", desc := "()I" } : Jvm.MethodName)) ∈ lw_tbl := lw_at lw_m4 220 rfl
theorem q1204 : (Jvm.Cond.instanceMethod ({ cls := "OpcodeForge$Assembler", name := "xor", desc := "()I" } : Jvm.MethodName)) ∈ lw_all := lw_g (lw_at lw_m4 221 rfl) rfl
theorem q1205 : (Jvm.Cond.code ({ cls := "OpcodeForge$Assembler", name := "xor", desc := "()I" } : Jvm.MethodName) prog_2_method_9_code (2 : Nat) (Option.some Jvm.ClassFile.FieldType.int)) ∈ lw_all := lw_g (lw_at lw_m4 222 rfl) rfl
theorem q1206 : (Jvm.Cond.methodLink "OpcodeForge$Assembler" (154 : Nat) ({ cls := "OpcodeForge$Assembler", name := "and", desc := "()I" } : Jvm.MethodName)) ∈ lw_all := lw_g (lw_at lw_m4 223 rfl) rfl
theorem q1207 : (Jvm.Cond.privateMethod ({ cls := "OpcodeForge$Assembler", name := "and", desc := "()I" } : Jvm.MethodName)) ∈ lw_tbl := lw_at lw_m4 224 rfl
theorem q1208 : (Jvm.Cond.instanceMethod ({ cls := "OpcodeForge$Assembler", name := "and", desc := "()I" } : Jvm.MethodName)) ∈ lw_all := lw_g (lw_at lw_m4 225 rfl) rfl
theorem q1209 : (Jvm.Cond.code ({ cls := "OpcodeForge$Assembler", name := "and", desc := "()I" } : Jvm.MethodName) prog_2_method_8_code (2 : Nat) (Option.some Jvm.ClassFile.FieldType.int)) ∈ lw_all := lw_g (lw_at lw_m4 226 rfl) rfl
theorem q1210 : (Jvm.Cond.methodLink "OpcodeForge$Assembler" (151 : Nat) ({ cls := "OpcodeForge$Assembler", name := "shift", desc := "()I" } : Jvm.MethodName)) ∈ lw_all := lw_g (lw_at lw_m4 227 rfl) rfl
theorem q1211 : (Jvm.Cond.privateMethod ({ cls := "OpcodeForge$Assembler", name := "shift", desc := "()I" } : Jvm.MethodName)) ∈ lw_tbl := lw_at lw_m4 228 rfl
theorem q1212 : (Jvm.Cond.instanceMethod ({ cls := "OpcodeForge$Assembler", name := "shift", desc := "()I" } : Jvm.MethodName)) ∈ lw_all := lw_g (lw_at lw_m4 229 rfl) rfl
theorem q1213 : (Jvm.Cond.code ({ cls := "OpcodeForge$Assembler", name := "shift", desc := "()I" } : Jvm.MethodName) prog_2_method_7_code (4 : Nat) (Option.some Jvm.ClassFile.FieldType.int)) ∈ lw_all := lw_g (lw_at lw_m4 230 rfl) rfl
theorem q1214 : (Jvm.Cond.methodLink "OpcodeForge$Assembler" (148 : Nat) ({ cls := "OpcodeForge$Assembler", name := "sum", desc := "()I" } : Jvm.MethodName)) ∈ lw_all := lw_g (lw_at lw_m4 231 rfl) rfl
theorem q1215 : (Jvm.Cond.privateMethod ({ cls := "OpcodeForge$Assembler", name := "sum", desc := "()I" } : Jvm.MethodName)) ∈ lw_tbl := lw_at lw_m4 232 rfl
theorem q1216 : (Jvm.Cond.instanceMethod ({ cls := "OpcodeForge$Assembler", name := "sum", desc := "()I" } : Jvm.MethodName)) ∈ lw_all := lw_g (lw_at lw_m4 233 rfl) rfl
theorem q1217 : (Jvm.Cond.code ({ cls := "OpcodeForge$Assembler", name := "sum", desc := "()I" } : Jvm.MethodName) prog_2_method_6_code (4 : Nat) (Option.some Jvm.ClassFile.FieldType.int)) ∈ lw_all := lw_g (lw_at lw_m4 234 rfl) rfl
theorem q1218 : (Jvm.Cond.methodLink "OpcodeForge$Assembler" (145 : Nat) ({ cls := "OpcodeForge$Assembler", name := "term", desc := "()I" } : Jvm.MethodName)) ∈ lw_all := lw_g (lw_at lw_m4 235 rfl) rfl
theorem q1219 : (Jvm.Cond.privateMethod ({ cls := "OpcodeForge$Assembler", name := "term", desc := "()I" } : Jvm.MethodName)) ∈ lw_tbl := lw_at lw_m4 236 rfl
theorem q1220 : (Jvm.Cond.instanceMethod ({ cls := "OpcodeForge$Assembler", name := "term", desc := "()I" } : Jvm.MethodName)) ∈ lw_all := lw_g (lw_at lw_m4 237 rfl) rfl
theorem q1221 : (Jvm.Cond.code ({ cls := "OpcodeForge$Assembler", name := "term", desc := "()I" } : Jvm.MethodName) prog_2_method_5_code (6 : Nat) (Option.some Jvm.ClassFile.FieldType.int)) ∈ lw_all := lw_g (lw_at lw_m4 238 rfl) rfl
theorem q1222 : (Jvm.Cond.methodLink "OpcodeForge$Assembler" (116 : Nat) ({ cls := "OpcodeForge$Assembler", name := "unary", desc := "()I" } : Jvm.MethodName)) ∈ lw_all := lw_g (lw_at lw_m4 239 rfl) rfl
theorem q1223 : (Jvm.Cond.privateMethod ({ cls := "OpcodeForge$Assembler", name := "unary", desc := "()I" } : Jvm.MethodName)) ∈ lw_tbl := lw_at lw_m5 0 rfl
theorem q1224 : (Jvm.Cond.instanceMethod ({ cls := "OpcodeForge$Assembler", name := "unary", desc := "()I" } : Jvm.MethodName)) ∈ lw_all := lw_g (lw_at lw_m5 1 rfl) rfl
theorem q1225 : (Jvm.Cond.code ({ cls := "OpcodeForge$Assembler", name := "unary", desc := "()I" } : Jvm.MethodName) prog_2_method_4_code (2 : Nat) (Option.some Jvm.ClassFile.FieldType.int)) ∈ lw_all := lw_g (lw_at lw_m5 2 rfl) rfl
theorem q1226 : (Jvm.Cond.methodLink "OpcodeForge$Assembler" (113 : Nat) ({ cls := "OpcodeForge$Assembler", name := "nest", desc := "()V" } : Jvm.MethodName)) ∈ lw_all := lw_g (lw_at lw_m5 3 rfl) rfl
theorem q1227 : (Jvm.Cond.privateMethod ({ cls := "OpcodeForge$Assembler", name := "nest", desc := "()V" } : Jvm.MethodName)) ∈ lw_tbl := lw_at lw_m5 4 rfl
theorem q1228 : (Jvm.Cond.instanceMethod ({ cls := "OpcodeForge$Assembler", name := "nest", desc := "()V" } : Jvm.MethodName)) ∈ lw_all := lw_g (lw_at lw_m5 5 rfl) rfl
theorem q1229 : (Jvm.Cond.code ({ cls := "OpcodeForge$Assembler", name := "nest", desc := "()V" } : Jvm.MethodName) prog_2_method_12_code (1 : Nat) (Option.none : Option Jvm.ClassFile.FieldType)) ∈ lw_all := lw_g (lw_at lw_m5 6 rfl) rfl
theorem q1230 : (Jvm.Cond.methodLink "OpcodeForge$Assembler" (125 : Nat) ({ cls := "OpcodeForge$Assembler", name := "name", desc := "()I" } : Jvm.MethodName)) ∈ lw_all := lw_g (lw_at lw_m5 7 rfl) rfl
theorem q1231 : (Jvm.Cond.privateMethod ({ cls := "OpcodeForge$Assembler", name := "name", desc := "()I" } : Jvm.MethodName)) ∈ lw_tbl := lw_at lw_m5 8 rfl
theorem q1232 : (Jvm.Cond.instanceMethod ({ cls := "OpcodeForge$Assembler", name := "name", desc := "()I" } : Jvm.MethodName)) ∈ lw_all := lw_g (lw_at lw_m5 9 rfl) rfl
theorem q1233 : (Jvm.Cond.code ({ cls := "OpcodeForge$Assembler", name := "name", desc := "()I" } : Jvm.MethodName) prog_2_method_3_code (2 : Nat) (Option.some Jvm.ClassFile.FieldType.int)) ∈ lw_all := lw_g (lw_at lw_m5 10 rfl) rfl
theorem q1234 : (Jvm.Cond.methodLink "OpcodeForge$Assembler" (100 : Nat) ({ cls := "OpcodeForge$Assembler", name := "tellFault", desc := "(II)V" } : Jvm.MethodName)) ∈ lw_all := lw_g (lw_at lw_m5 11 rfl) rfl
theorem q1235 : (Jvm.Cond.privateMethod ({ cls := "OpcodeForge$Assembler", name := "tellFault", desc := "(II)V" } : Jvm.MethodName)) ∈ lw_tbl := lw_at lw_m5 12 rfl
theorem q1236 : (Jvm.Cond.instanceMethod ({ cls := "OpcodeForge$Assembler", name := "tellFault", desc := "(II)V" } : Jvm.MethodName)) ∈ lw_all := lw_g (lw_at lw_m5 13 rfl) rfl
theorem q1237 : (Jvm.Cond.code ({ cls := "OpcodeForge$Assembler", name := "tellFault", desc := "(II)V" } : Jvm.MethodName) prog_2_method_15_code (3 : Nat) (Option.none : Option Jvm.ClassFile.FieldType)) ∈ lw_all := lw_g (lw_at lw_m5 14 rfl) rfl
theorem q1238 : (Jvm.Cond.methodLink "OpcodeForge$Assembler" (134 : Nat) ({ cls := "OpcodeForge$Tokens", name := "want", desc := "(I)V" } : Jvm.MethodName)) ∈ lw_all := lw_g (lw_at lw_m5 15 rfl) rfl
theorem q1244 : (Jvm.Cond.methodLinkNest "OpcodeForge$Assembler" (164 : Nat) ({ cls := "OpcodeForge", name := "isIn", desc := "(JJJ)Z" } : Jvm.MethodName) "OpcodeForge") ∈ lw_tbl := lw_at lw_m5 21 rfl
theorem q1245 : (Jvm.Cond.methodLink "OpcodeForge$Assembler" (334 : Nat) ({ cls := "OpcodeForge$Assembler", name := "instruction", desc := "(I)V" } : Jvm.MethodName)) ∈ lw_all := lw_g (lw_at lw_m5 22 rfl) rfl
theorem q1246 : (Jvm.Cond.privateMethod ({ cls := "OpcodeForge$Assembler", name := "instruction", desc := "(I)V" } : Jvm.MethodName)) ∈ lw_tbl := lw_at lw_m5 23 rfl
theorem q1247 : (Jvm.Cond.instanceMethod ({ cls := "OpcodeForge$Assembler", name := "instruction", desc := "(I)V" } : Jvm.MethodName)) ∈ lw_all := lw_g (lw_at lw_m5 24 rfl) rfl
theorem q1248 : (Jvm.Cond.code ({ cls := "OpcodeForge$Assembler", name := "instruction", desc := "(I)V" } : Jvm.MethodName) prog_2_method_28_code (6 : Nat) (Option.none : Option Jvm.ClassFile.FieldType)) ∈ lw_all := lw_g (lw_at lw_m5 25 rfl) rfl
theorem q1249 : (Jvm.Cond.methodLink "OpcodeForge$Assembler" (260 : Nat) ({ cls := "OpcodeForge$Assembler", name := "readOperands", desc := "()V" } : Jvm.MethodName)) ∈ lw_all := lw_g (lw_at lw_m5 26 rfl) rfl
theorem q1250 : (Jvm.Cond.privateMethod ({ cls := "OpcodeForge$Assembler", name := "readOperands", desc := "()V" } : Jvm.MethodName)) ∈ lw_tbl := lw_at lw_m5 27 rfl
theorem q1251 : (Jvm.Cond.instanceMethod ({ cls := "OpcodeForge$Assembler", name := "readOperands", desc := "()V" } : Jvm.MethodName)) ∈ lw_all := lw_g (lw_at lw_m5 28 rfl) rfl
theorem q1252 : (Jvm.Cond.code ({ cls := "OpcodeForge$Assembler", name := "readOperands", desc := "()V" } : Jvm.MethodName) prog_2_method_21_code (1 : Nat) (Option.none : Option Jvm.ClassFile.FieldType)) ∈ lw_all := lw_g (lw_at lw_m5 29 rfl) rfl
theorem q1253 : (Jvm.Cond.methodLink "OpcodeForge$Assembler" (211 : Nat) ({ cls := "OpcodeForge$Assembler", name := "operand", desc := "()V" } : Jvm.MethodName)) ∈ lw_all := lw_g (lw_at lw_m5 30 rfl) rfl
theorem q1254 : (Jvm.Cond.privateMethod ({ cls := "OpcodeForge$Assembler", name := "operand", desc := "()V" } : Jvm.MethodName)) ∈ lw_tbl := lw_at lw_m5 31 rfl
theorem q1255 : (Jvm.Cond.instanceMethod ({ cls := "OpcodeForge$Assembler", name := "operand", desc := "()V" } : Jvm.MethodName)) ∈ lw_all := lw_g (lw_at lw_m5 32 rfl) rfl
theorem q1256 : (Jvm.Cond.code ({ cls := "OpcodeForge$Assembler", name := "operand", desc := "()V" } : Jvm.MethodName) prog_2_method_20_code (4 : Nat) (Option.none : Option Jvm.ClassFile.FieldType)) ∈ lw_all := lw_g (lw_at lw_m5 33 rfl) rfl
theorem q1257 : (Jvm.Cond.methodLink "OpcodeForge$Assembler" (198 : Nat) ({ cls := "OpcodeForge$Tokens", name := "isWhole", desc := "()Z" } : Jvm.MethodName)) ∈ lw_all := lw_g (lw_at lw_m5 34 rfl) rfl
theorem q1263 : (Jvm.Cond.methodLink "OpcodeForge$Assembler" (202 : Nat) ({ cls := "OpcodeForge$Assembler", name := "place", desc := "(I)V" } : Jvm.MethodName)) ∈ lw_all := lw_g (lw_at lw_m5 40 rfl) rfl
theorem q1264 : (Jvm.Cond.privateMethod ({ cls := "OpcodeForge$Assembler", name := "place", desc := "(I)V" } : Jvm.MethodName)) ∈ lw_tbl := lw_at lw_m5 41 rfl
theorem q1265 : (Jvm.Cond.instanceMethod ({ cls := "OpcodeForge$Assembler", name := "place", desc := "(I)V" } : Jvm.MethodName)) ∈ lw_all := lw_g (lw_at lw_m5 42 rfl) rfl
theorem q1266 : (Jvm.Cond.code ({ cls := "OpcodeForge$Assembler", name := "place", desc := "(I)V" } : Jvm.MethodName) prog_2_method_19_code (4 : Nat) (Option.none : Option Jvm.ClassFile.FieldType)) ∈ lw_all := lw_g (lw_at lw_m5 43 rfl) rfl
theorem q1267 : (Jvm.Cond.methodLink "OpcodeForge$Assembler" (189 : Nat) ({ cls := "OpcodeForge$Tokens", name := "signBehind", desc := "()I" } : Jvm.MethodName)) ∈ lw_all := lw_g (lw_at lw_m5 44 rfl) rfl
theorem q1271 : (Jvm.Cond.methodLink "OpcodeForge$Assembler" (192 : Nat) ({ cls := "OpcodeForge$Assembler", name := "indexed", desc := "(I)V" } : Jvm.MethodName)) ∈ lw_all := lw_g (lw_at lw_m5 48 rfl) rfl
theorem q1272 : (Jvm.Cond.privateMethod ({ cls := "OpcodeForge$Assembler", name := "indexed", desc := "(I)V" } : Jvm.MethodName)) ∈ lw_tbl := lw_at lw_m5 49 rfl
theorem q1273 : (Jvm.Cond.instanceMethod ({ cls := "OpcodeForge$Assembler", name := "indexed", desc := "(I)V" } : Jvm.MethodName)) ∈ lw_all := lw_g (lw_at lw_m5 50 rfl) rfl
theorem q1274 : (Jvm.Cond.code ({ cls := "OpcodeForge$Assembler", name := "indexed", desc := "(I)V" } : Jvm.MethodName) prog_2_method_18_code (4 : Nat) (Option.none : Option Jvm.ClassFile.FieldType)) ∈ lw_all := lw_g (lw_at lw_m5 51 rfl) rfl
theorem q1275 : (Jvm.Cond.methodLink "OpcodeForge$Assembler" (186 : Nat) ({ cls := "OpcodeForge$Assembler", name := "value", desc := "(II)V" } : Jvm.MethodName)) ∈ lw_all := lw_g (lw_at lw_m5 52 rfl) rfl
theorem q1276 : (Jvm.Cond.privateMethod ({ cls := "OpcodeForge$Assembler", name := "value", desc := "(II)V" } : Jvm.MethodName)) ∈ lw_tbl := lw_at lw_m5 53 rfl
theorem q1277 : (Jvm.Cond.instanceMethod ({ cls := "OpcodeForge$Assembler", name := "value", desc := "(II)V" } : Jvm.MethodName)) ∈ lw_all := lw_g (lw_at lw_m5 54 rfl) rfl
theorem q1278 : (Jvm.Cond.code ({ cls := "OpcodeForge$Assembler", name := "value", desc := "(II)V" } : Jvm.MethodName) prog_2_method_17_code (3 : Nat) (Option.none : Option Jvm.ClassFile.FieldType)) ∈ lw_all := lw_g (lw_at lw_m5 55 rfl) rfl
theorem q1279 : (Jvm.Cond.methodLink "OpcodeForge$Assembler" (205 : Nat) ({ cls := "OpcodeForge$Tokens", name := "isAlone", desc := "()Z" } : Jvm.MethodName)) ∈ lw_all := lw_g (lw_at lw_m5 56 rfl) rfl
theorem q1283 : (Jvm.Cond.methodLink "OpcodeForge$Assembler" (263 : Nat) ({ cls := "OpcodeForge$Assembler", name := "checkNumber", desc := "(I)V" } : Jvm.MethodName)) ∈ lw_all := lw_g (lw_at lw_m5 60 rfl) rfl
theorem q1284 : (Jvm.Cond.privateMethod ({ cls := "OpcodeForge$Assembler", name := "checkNumber", desc := "(I)V" } : Jvm.MethodName)) ∈ lw_tbl := lw_at lw_m5 61 rfl
theorem q1285 : (Jvm.Cond.instanceMethod ({ cls := "OpcodeForge$Assembler", name := "checkNumber", desc := "(I)V" } : Jvm.MethodName)) ∈ lw_all := lw_g (lw_at lw_m5 62 rfl) rfl
theorem q1286 : (Jvm.Cond.code ({ cls := "OpcodeForge$Assembler", name := "checkNumber", desc := "(I)V" } : Jvm.MethodName) prog_2_method_24_code (2 : Nat) (Option.none : Option Jvm.ClassFile.FieldType)) ∈ lw_all := lw_g (lw_at lw_m5 63 rfl) rfl
theorem q1287 : (Jvm.Cond.methodLink "OpcodeForge$Assembler" (252 : Nat) ({ cls := "OpcodeForge$Assembler", name := "inRange", desc := "(IIII)V" } : Jvm.MethodName)) ∈ lw_all := lw_g (lw_at lw_m5 64 rfl) rfl
theorem q1288 : (Jvm.Cond.privateMethod ({ cls := "OpcodeForge$Assembler", name := "inRange", desc := "(IIII)V" } : Jvm.MethodName)) ∈ lw_tbl := lw_at lw_m5 65 rfl
theorem q1289 : (Jvm.Cond.instanceMethod ({ cls := "OpcodeForge$Assembler", name := "inRange", desc := "(IIII)V" } : Jvm.MethodName)) ∈ lw_all := lw_g (lw_at lw_m5 66 rfl) rfl
theorem q1290 : (Jvm.Cond.code ({ cls := "OpcodeForge$Assembler", name := "inRange", desc := "(IIII)V" } : Jvm.MethodName) prog_2_method_14_code (5 : Nat) (Option.none : Option Jvm.ClassFile.FieldType)) ∈ lw_all := lw_g (lw_at lw_m5 67 rfl) rfl
theorem q1291 : (Jvm.Cond.methodLink "OpcodeForge$Assembler" (266 : Nat) ({ cls := "OpcodeForge$Assembler", name := "form", desc := "(I)I" } : Jvm.MethodName)) ∈ lw_all := lw_g (lw_at lw_m5 68 rfl) rfl
theorem q1292 : (Jvm.Cond.privateMethod ({ cls := "OpcodeForge$Assembler", name := "form", desc := "(I)I" } : Jvm.MethodName)) ∈ lw_tbl := lw_at lw_m5 69 rfl
theorem q1293 : (Jvm.Cond.instanceMethod ({ cls := "OpcodeForge$Assembler", name := "form", desc := "(I)I" } : Jvm.MethodName)) ∈ lw_all := lw_g (lw_at lw_m5 70 rfl) rfl
theorem q1294 : (Jvm.Cond.code ({ cls := "OpcodeForge$Assembler", name := "form", desc := "(I)I" } : Jvm.MethodName) prog_2_method_23_code (3 : Nat) (Option.some Jvm.ClassFile.FieldType.int)) ∈ lw_all := lw_g (lw_at lw_m5 71 rfl) rfl
theorem q1295 : (Jvm.Cond.methodLink "OpcodeForge$Assembler" (242 : Nat) ({ cls := "OpcodeForge$Assembler", name := "isFit", desc := "(III)Z" } : Jvm.MethodName)) ∈ lw_all := lw_g (lw_at lw_m5 72 rfl) rfl
theorem q1296 : (Jvm.Cond.privateMethod ({ cls := "OpcodeForge$Assembler", name := "isFit", desc := "(III)Z" } : Jvm.MethodName)) ∈ lw_tbl := lw_at lw_m5 73 rfl
theorem q1297 : (Jvm.Cond.instanceMethod ({ cls := "OpcodeForge$Assembler", name := "isFit", desc := "(III)Z" } : Jvm.MethodName)) ∈ lw_all := lw_g (lw_at lw_m5 74 rfl) rfl
theorem q1298 : (Jvm.Cond.code ({ cls := "OpcodeForge$Assembler", name := "isFit", desc := "(III)Z" } : Jvm.MethodName) prog_2_method_22_code (5 : Nat) (Option.some Jvm.ClassFile.FieldType.boolean)) ∈ lw_all := lw_g (lw_at lw_m5 75 rfl) rfl
theorem q1299 : (Jvm.Cond.methodLinkNest "OpcodeForge$Assembler" (214 : Nat) ({ cls := "OpcodeForge$Writer", name := "register", desc := "(I)I" } : Jvm.MethodName) "OpcodeForge") ∈ lw_tbl := lw_at lw_m5 76 rfl
theorem q1302 : (Jvm.Cond.methodLinkNest "OpcodeForge$Assembler" (220 : Nat) ({ cls := "OpcodeForge$Writer", name := "pair", desc := "(I)I" } : Jvm.MethodName) "OpcodeForge") ∈ lw_tbl := lw_at lw_m5 79 rfl
theorem q1305 : (Jvm.Cond.methodLinkNest "OpcodeForge$Assembler" (223 : Nat) ({ cls := "OpcodeForge$Writer", name := "condition", desc := "(I)I" } : Jvm.MethodName) "OpcodeForge") ∈ lw_tbl := lw_at lw_m5 82 rfl
theorem q1308 : (Jvm.Cond.methodLinkNest "OpcodeForge$Assembler" (226 : Nat) ({ cls := "OpcodeForge$Writer", name := "atName", desc := "(I)I" } : Jvm.MethodName) "OpcodeForge") ∈ lw_tbl := lw_at lw_m5 85 rfl
theorem q1311 : (Jvm.Cond.methodLink "OpcodeForge$Assembler" (272 : Nat) ({ cls := "OpcodeForge$Forms", name := "size", desc := "(I)I" } : Jvm.MethodName)) ∈ lw_all := lw_g (lw_at lw_m5 88 rfl) rfl
theorem q1322 : (Jvm.Cond.methodLink "OpcodeForge$Assembler" (275 : Nat) ({ cls := "OpcodeForge$Assembler", name := "checkValue", desc := "(III)V" } : Jvm.MethodName)) ∈ lw_all := lw_g (lw_at lw_m5 99 rfl) rfl
theorem q1323 : (Jvm.Cond.privateMethod ({ cls := "OpcodeForge$Assembler", name := "checkValue", desc := "(III)V" } : Jvm.MethodName)) ∈ lw_tbl := lw_at lw_m5 100 rfl
theorem q1324 : (Jvm.Cond.instanceMethod ({ cls := "OpcodeForge$Assembler", name := "checkValue", desc := "(III)V" } : Jvm.MethodName)) ∈ lw_all := lw_g (lw_at lw_m5 101 rfl) rfl
theorem q1325 : (Jvm.Cond.code ({ cls := "OpcodeForge$Assembler", name := "checkValue", desc := "(III)V" } : Jvm.MethodName) prog_2_method_25_code (5 : Nat) (Option.none : Option Jvm.ClassFile.FieldType)) ∈ lw_all := lw_g (lw_at lw_m5 102 rfl) rfl
theorem q1326 : (Jvm.Cond.constant "OpcodeForge$Assembler" (256 : Nat) (65535 : Int32)) ∈ lw_all := lw_g (lw_at lw_m5 103 rfl) rfl
theorem q1327 : (Jvm.Cond.methodLink "OpcodeForge$Assembler" (257 : Nat) ({ cls := "OpcodeForge$Assembler", name := "lay", desc := "(I)V" } : Jvm.MethodName)) ∈ lw_all := lw_g (lw_at lw_m5 104 rfl) rfl
theorem q1328 : (Jvm.Cond.privateMethod ({ cls := "OpcodeForge$Assembler", name := "lay", desc := "(I)V" } : Jvm.MethodName)) ∈ lw_tbl := lw_at lw_m5 105 rfl
theorem q1329 : (Jvm.Cond.instanceMethod ({ cls := "OpcodeForge$Assembler", name := "lay", desc := "(I)V" } : Jvm.MethodName)) ∈ lw_all := lw_g (lw_at lw_m5 106 rfl) rfl
theorem q1330 : (Jvm.Cond.code ({ cls := "OpcodeForge$Assembler", name := "lay", desc := "(I)V" } : Jvm.MethodName) prog_2_method_16_code (2 : Nat) (Option.none : Option Jvm.ClassFile.FieldType)) ∈ lw_all := lw_g (lw_at lw_m5 107 rfl) rfl
theorem q1331 : (Jvm.Cond.methodLink "OpcodeForge$Assembler" (282 : Nat) ({ cls := "OpcodeForge$Assembler", name := "indexOf", desc := "(I)I" } : Jvm.MethodName)) ∈ lw_all := lw_g (lw_at lw_m5 108 rfl) rfl
theorem q1332 : (Jvm.Cond.privateMethod ({ cls := "OpcodeForge$Assembler", name := "indexOf", desc := "(I)I" } : Jvm.MethodName)) ∈ lw_tbl := lw_at lw_m5 109 rfl
theorem q1333 : (Jvm.Cond.instanceMethod ({ cls := "OpcodeForge$Assembler", name := "indexOf", desc := "(I)I" } : Jvm.MethodName)) ∈ lw_all := lw_g (lw_at lw_m5 110 rfl) rfl
theorem q1334 : (Jvm.Cond.code ({ cls := "OpcodeForge$Assembler", name := "indexOf", desc := "(I)I" } : Jvm.MethodName) prog_2_method_27_code (3 : Nat) (Option.some Jvm.ClassFile.FieldType.int)) ∈ lw_all := lw_g (lw_at lw_m5 111 rfl) rfl
theorem q1335 : (Jvm.Cond.methodLink "OpcodeForge$Assembler" (288 : Nat) ({ cls := "OpcodeForge$Forms", name := "hasIndex", desc := "(I)Z" } : Jvm.MethodName)) ∈ lw_all := lw_g (lw_at lw_m5 112 rfl) rfl
theorem q1336 : (Jvm.Cond.methodLink "OpcodeForge$Assembler" (292 : Nat) ({ cls := "OpcodeForge$Assembler", name := "layOperand", desc := "(III)V" } : Jvm.MethodName)) ∈ lw_all := lw_g (lw_at lw_m5 113 rfl) rfl
theorem q1337 : (Jvm.Cond.privateMethod ({ cls := "OpcodeForge$Assembler", name := "layOperand", desc := "(III)V" } : Jvm.MethodName)) ∈ lw_tbl := lw_at lw_m5 114 rfl
theorem q1338 : (Jvm.Cond.instanceMethod ({ cls := "OpcodeForge$Assembler", name := "layOperand", desc := "(III)V" } : Jvm.MethodName)) ∈ lw_all := lw_g (lw_at lw_m5 115 rfl) rfl
theorem q1339 : (Jvm.Cond.code ({ cls := "OpcodeForge$Assembler", name := "layOperand", desc := "(III)V" } : Jvm.MethodName) prog_2_method_26_code (5 : Nat) (Option.none : Option Jvm.ClassFile.FieldType)) ∈ lw_all := lw_g (lw_at lw_m5 116 rfl) rfl
theorem q1340 : (Jvm.Cond.methodLink "OpcodeForge$Assembler" (337 : Nat) ({ cls := "OpcodeForge$Assembler", name := "data", desc := "(Z)V" } : Jvm.MethodName)) ∈ lw_all := lw_g (lw_at lw_m5 117 rfl) rfl
theorem q1341 : (Jvm.Cond.privateMethod ({ cls := "OpcodeForge$Assembler", name := "data", desc := "(Z)V" } : Jvm.MethodName)) ∈ lw_tbl := lw_at lw_m5 118 rfl
theorem q1342 : (Jvm.Cond.instanceMethod ({ cls := "OpcodeForge$Assembler", name := "data", desc := "(Z)V" } : Jvm.MethodName)) ∈ lw_all := lw_g (lw_at lw_m5 119 rfl) rfl
theorem q1343 : (Jvm.Cond.code ({ cls := "OpcodeForge$Assembler", name := "data", desc := "(Z)V" } : Jvm.MethodName) prog_2_method_30_code (4 : Nat) (Option.none : Option Jvm.ClassFile.FieldType)) ∈ lw_all := lw_g (lw_at lw_m5 120 rfl) rfl
theorem q1344 : (Jvm.Cond.methodLink "OpcodeForge$Assembler" (298 : Nat) ({ cls := "OpcodeForge$Assembler", name := "texts", desc := "()V" } : Jvm.MethodName)) ∈ lw_all := lw_g (lw_at lw_m5 121 rfl) rfl
theorem q1345 : (Jvm.Cond.privateMethod ({ cls := "OpcodeForge$Assembler", name := "texts", desc := "()V" } : Jvm.MethodName)) ∈ lw_tbl := lw_at lw_m5 122 rfl
theorem q1346 : (Jvm.Cond.instanceMethod ({ cls := "OpcodeForge$Assembler", name := "texts", desc := "()V" } : Jvm.MethodName)) ∈ lw_all := lw_g (lw_at lw_m5 123 rfl) rfl
theorem q1347 : (Jvm.Cond.code ({ cls := "OpcodeForge$Assembler", name := "texts", desc := "()V" } : Jvm.MethodName) prog_2_method_29_code (2 : Nat) (Option.none : Option Jvm.ClassFile.FieldType)) ∈ lw_all := lw_g (lw_at lw_m5 124 rfl) rfl
theorem q1348 : (Jvm.Cond.methodLink "OpcodeForge$Assembler" (341 : Nat) ({ cls := "OpcodeForge$Assembler", name := "space", desc := "()V" } : Jvm.MethodName)) ∈ lw_all := lw_g (lw_at lw_m5 125 rfl) rfl
theorem q1349 : (Jvm.Cond.privateMethod ({ cls := "OpcodeForge$Assembler", name := "space", desc := "()V" } : Jvm.MethodName)) ∈ lw_tbl := lw_at lw_m5 126 rfl
theorem q1350 : (Jvm.Cond.instanceMethod ({ cls := "OpcodeForge$Assembler", name := "space", desc := "()V" } : Jvm.MethodName)) ∈ lw_all := lw_g (lw_at lw_m5 127 rfl) rfl
theorem q1351 : (Jvm.Cond.code ({ cls := "OpcodeForge$Assembler", name := "space", desc := "()V" } : Jvm.MethodName) prog_2_method_31_code (4 : Nat) (Option.none : Option Jvm.ClassFile.FieldType)) ∈ lw_all := lw_g (lw_at lw_m5 128 rfl) rfl
theorem q1352 : (Jvm.Cond.methodLink "OpcodeForge$Assembler" (344 : Nat) ({ cls := "OpcodeForge$Assembler", name := "conditional", desc := "(I)V" } : Jvm.MethodName)) ∈ lw_all := lw_g (lw_at lw_m5 129 rfl) rfl
theorem q1353 : (Jvm.Cond.privateMethod ({ cls := "OpcodeForge$Assembler", name := "conditional", desc := "(I)V" } : Jvm.MethodName)) ∈ lw_tbl := lw_at lw_m5 130 rfl
theorem q1354 : (Jvm.Cond.instanceMethod ({ cls := "OpcodeForge$Assembler", name := "conditional", desc := "(I)V" } : Jvm.MethodName)) ∈ lw_all := lw_g (lw_at lw_m5 131 rfl) rfl
theorem q1355 : (Jvm.Cond.code ({ cls := "OpcodeForge$Assembler", name := "conditional", desc := "(I)V" } : Jvm.MethodName) prog_2_method_33_code (3 : Nat) (Option.none : Option Jvm.ClassFile.FieldType)) ∈ lw_all := lw_g (lw_at lw_m5 132 rfl) rfl
theorem q1356 : (Jvm.Cond.methodLink "OpcodeForge$Assembler" (317 : Nat) ({ cls := "OpcodeForge$Assembler", name := "begin", desc := "(ZZ)V" } : Jvm.MethodName)) ∈ lw_all := lw_g (lw_at lw_m5 133 rfl) rfl
theorem q1357 : (Jvm.Cond.privateMethod ({ cls := "OpcodeForge$Assembler", name := "begin", desc := "(ZZ)V" } : Jvm.MethodName)) ∈ lw_tbl := lw_at lw_m5 134 rfl
theorem q1358 : (Jvm.Cond.instanceMethod ({ cls := "OpcodeForge$Assembler", name := "begin", desc := "(ZZ)V" } : Jvm.MethodName)) ∈ lw_all := lw_g (lw_at lw_m5 135 rfl) rfl
theorem q1359 : (Jvm.Cond.code ({ cls := "OpcodeForge$Assembler", name := "begin", desc := "(ZZ)V" } : Jvm.MethodName) prog_2_method_34_code (3 : Nat) (Option.none : Option Jvm.ClassFile.FieldType)) ∈ lw_all := lw_g (lw_at lw_m5 136 rfl) rfl
theorem q1360 : (Jvm.Cond.methodLink "OpcodeForge$Assembler" (321 : Nat) ({ cls := "OpcodeForge$Assembler", name := "otherwise", desc := "(II)V" } : Jvm.MethodName)) ∈ lw_all := lw_g (lw_at lw_m5 137 rfl) rfl
theorem q1361 : (Jvm.Cond.privateMethod ({ cls := "OpcodeForge$Assembler", name := "otherwise", desc := "(II)V" } : Jvm.MethodName)) ∈ lw_tbl := lw_at lw_m5 138 rfl
theorem q1362 : (Jvm.Cond.instanceMethod ({ cls := "OpcodeForge$Assembler", name := "otherwise", desc := "(II)V" } : Jvm.MethodName)) ∈ lw_all := lw_g (lw_at lw_m5 139 rfl) rfl
theorem q1363 : (Jvm.Cond.code ({ cls := "OpcodeForge$Assembler", name := "otherwise", desc := "(II)V" } : Jvm.MethodName) prog_2_method_35_code (3 : Nat) (Option.none : Option Jvm.ClassFile.FieldType)) ∈ lw_all := lw_g (lw_at lw_m5 140 rfl) rfl
theorem q1364 : (Jvm.Cond.methodLink "OpcodeForge$Assembler" (385 : Nat) ({ cls := "OpcodeForge$Assembler", name := "lineFault", desc := "(LOpcodeForge$Fault;)V" } : Jvm.MethodName)) ∈ lw_all := lw_g (lw_at lw_m5 141 rfl) rfl
theorem q1365 : (Jvm.Cond.privateMethod ({ cls := "OpcodeForge$Assembler", name := "lineFault", desc := "(LOpcodeForge$Fault;)V" } : Jvm.MethodName)) ∈ lw_tbl := lw_at lw_m5 142 rfl
theorem q1366 : (Jvm.Cond.instanceMethod ({ cls := "OpcodeForge$Assembler", name := "lineFault", desc := "(LOpcodeForge$Fault;)V" } : Jvm.MethodName)) ∈ lw_all := lw_g (lw_at lw_m5 143 rfl) rfl
theorem q1367 : (Jvm.Cond.code ({ cls := "OpcodeForge$Assembler", name := "lineFault", desc := "(LOpcodeForge$Fault;)V" } : Jvm.MethodName) prog_2_method_39_code (2 : Nat) (Option.none : Option Jvm.ClassFile.FieldType)) ∈ lw_all := lw_g (lw_at lw_m5 144 rfl) rfl
theorem q1368 : (Jvm.Cond.methodLink "OpcodeForge$Assembler" (397 : Nat) ({ cls := "OpcodeForge$Assembler", name := "skipLine", desc := "()V" } : Jvm.MethodName)) ∈ lw_all := lw_g (lw_at lw_m5 145 rfl) rfl
theorem q1369 : (Jvm.Cond.privateMethod ({ cls := "OpcodeForge$Assembler", name := "skipLine", desc := "()V" } : Jvm.MethodName)) ∈ lw_tbl := lw_at lw_m5 146 rfl
theorem q1370 : (Jvm.Cond.instanceMethod ({ cls := "OpcodeForge$Assembler", name := "skipLine", desc := "()V" } : Jvm.MethodName)) ∈ lw_all := lw_g (lw_at lw_m5 147 rfl) rfl
theorem q1371 : (Jvm.Cond.code ({ cls := "OpcodeForge$Assembler", name := "skipLine", desc := "()V" } : Jvm.MethodName) prog_2_method_41_code (4 : Nat) (Option.none : Option Jvm.ClassFile.FieldType)) ∈ lw_all := lw_g (lw_at lw_m5 148 rfl) rfl
theorem q1372 : (Jvm.Cond.methodLinkNest "OpcodeForge$Assembler" (365 : Nat) ({ cls := "OpcodeForge$Tokens", name := "skipBlanks", desc := "()V" } : Jvm.MethodName) "OpcodeForge") ∈ lw_tbl := lw_at lw_m5 149 rfl
theorem q1373 : (Jvm.Cond.methodLinkNest "OpcodeForge$Assembler" (359 : Nat) ({ cls := "OpcodeForge$Tokens", name := "signAt", desc := "(I)I" } : Jvm.MethodName) "OpcodeForge") ∈ lw_tbl := lw_at lw_m5 150 rfl
theorem q1374 : (Jvm.Cond.methodLinkNest "OpcodeForge$Assembler" (371 : Nat) ({ cls := "OpcodeForge$Tokens", name := "isNameStart", desc := "(I)Z" } : Jvm.MethodName) "OpcodeForge") ∈ lw_tbl := lw_at lw_m5 151 rfl
theorem q1375 : (Jvm.Cond.methodLink "OpcodeForge$Assembler" (374 : Nat) ({ cls := "OpcodeForge$Assembler", name := "nameEnd", desc := "(I)I" } : Jvm.MethodName)) ∈ lw_all := lw_g (lw_at lw_m5 152 rfl) rfl
theorem q1376 : (Jvm.Cond.privateMethod ({ cls := "OpcodeForge$Assembler", name := "nameEnd", desc := "(I)I" } : Jvm.MethodName)) ∈ lw_tbl := lw_at lw_m5 153 rfl
theorem q1377 : (Jvm.Cond.instanceMethod ({ cls := "OpcodeForge$Assembler", name := "nameEnd", desc := "(I)I" } : Jvm.MethodName)) ∈ lw_all := lw_g (lw_at lw_m5 154 rfl) rfl
theorem q1378 : (Jvm.Cond.code ({ cls := "OpcodeForge$Assembler", name := "nameEnd", desc := "(I)I" } : Jvm.MethodName) prog_2_method_40_code (3 : Nat) (Option.some Jvm.ClassFile.FieldType.int)) ∈ lw_all := lw_g (lw_at lw_m5 155 rfl) rfl
theorem q1379 : (Jvm.Cond.methodLinkNest "OpcodeForge$Assembler" (362 : Nat) ({ cls := "OpcodeForge$Tokens", name := "isNamePart", desc := "(I)Z" } : Jvm.MethodName) "OpcodeForge") ∈ lw_tbl := lw_at lw_m5 156 rfl
theorem q1380 : (Jvm.Cond.methodLink "OpcodeForge$Assembler" (400 : Nat) ({ cls := "OpcodeForge$Tokens", name := "endLine", desc := "()V" } : Jvm.MethodName)) ∈ lw_all := lw_g (lw_at lw_m5 157 rfl) rfl
theorem q1384 : (Jvm.Cond.methodLink "OpcodeForge$Assembler" (405 : Nat) ({ cls := "java/lang/System", name := "arraycopy", desc := "(Ljava/lang/Object;ILjava/lang/Object;II)V" } : Jvm.MethodName)) ∈ lw_all := lw_g (lw_at lw_m5 161 rfl) rfl
theorem in_X3 : ∀ w ∈ wsX30, w ∈ lw_all := lw_in wsX30 [638, 640, 642, 644, 646, 648, 650, 652, 654, 656, 658, 660, 662, 664, 666, 668, 670, 672, 674, 676, 678, 680, 682, 684, 686, 688, 690, 692, 694, 696] (by decide +kernel) (by decide +kernel)
def RX4 : String := "OpcodeForge$Tokens"
def TX4 : u_T := fun k => match k with
  | 0 => ("OpcodeForge$Tokens", "row", "[B", true)
  | 1 => ("OpcodeForge$Tokens", "size", "I", false)
  | 2 => ("OpcodeForge$Tokens", "capitals", "[B", true)
  | 3 => ("OpcodeForge$Tokens", "at", "I", false)
  | 4 => ("OpcodeForge$Tokens", "read", "Z", false)
  | 5 => ("OpcodeForge$Tokens", "kind", "I", false)
  | 6 => ("OpcodeForge$Tokens", "from", "I", false)
  | 7 => ("OpcodeForge$Tokens", "length", "I", false)
  | _ => ("OpcodeForge$Tokens", "number", "I", false)
def tyX4 : Nat → FieldType := fun k => match k with
  | 0 => .array .byte
  | 1 => .int
  | 2 => .array .byte
  | 3 => .int
  | 4 => .boolean
  | 5 => .int
  | 6 => .int
  | 7 => .int
  | _ => .int
abbrev wsX40 : List Cond := u_ws RX4 TX4 9
theorem nmX4 : ∀ a, a < 9 → ∀ b, b < 9 → a ≠ b → (TX4 a).2.1 ≠ (TX4 b).2.1 := by decide +kernel
theorem tyX4_ok : ∀ k, k < 9 → parseFieldDescriptor (TX4 k).2.2.1 = some (tyX4 k) := by decide +kernel
abbrev cX4_init : ByteArray := prog_7_method_1_code
def yX4_init : MethodName := ⟨RX4, "<init>", "()V"⟩
abbrev cX4_begin : ByteArray := prog_7_method_2_code
def yX4_begin : MethodName := ⟨RX4, "begin", "()V"⟩
abbrev cX4_look : ByteArray := prog_7_method_16_code
def yX4_look : MethodName := ⟨RX4, "look", "()I"⟩
abbrev cX4_scan : ByteArray := prog_7_method_15_code
def yX4_scan : MethodName := ⟨RX4, "scan", "()V"⟩
abbrev cX4_skipBlanks : ByteArray := prog_7_method_7_code
def yX4_skipBlanks : MethodName := ⟨RX4, "skipBlanks", "()V"⟩
abbrev cX4_signAt : ByteArray := prog_7_method_3_code
def yX4_signAt : MethodName := ⟨RX4, "signAt", "(I)I"⟩
abbrev cX4_isNameStart : ByteArray := prog_7_method_5_code
def yX4_isNameStart : MethodName := ⟨RX4, "isNameStart", "(I)Z"⟩
abbrev cX4_scanName : ByteArray := prog_7_method_14_code
def yX4_scanName : MethodName := ⟨RX4, "scanName", "()V"⟩
abbrev cX4_isNamePart : ByteArray := prog_7_method_6_code
def yX4_isNamePart : MethodName := ⟨RX4, "isNamePart", "(I)Z"⟩
abbrev cX4_isDigit : ByteArray := prog_7_method_4_code
def yX4_isDigit : MethodName := ⟨RX4, "isDigit", "(I)Z"⟩
abbrev cX4_scanNumber : ByteArray := prog_7_method_9_code
def yX4_scanNumber : MethodName := ⟨RX4, "scanNumber", "(II)V"⟩
abbrev cX4_digit : ByteArray := prog_7_method_8_code
def yX4_digit : MethodName := ⟨RX4, "digit", "(II)I"⟩
abbrev cX4_scanSign : ByteArray := prog_7_method_12_code
def yX4_scanSign : MethodName := ⟨RX4, "scanSign", "()V"⟩
abbrev cX4_byteAt : ByteArray := prog_7_method_11_code
def yX4_byteAt : MethodName := ⟨RX4, "byteAt", "(I)I"⟩
abbrev cX4_isShown : ByteArray := prog_7_method_10_code
def yX4_isShown : MethodName := ⟨RX4, "isShown", "(I)Z"⟩
abbrev cX4_scanText : ByteArray := prog_7_method_13_code
def yX4_scanText : MethodName := ⟨RX4, "scanText", "()V"⟩
abbrev cX4_pass : ByteArray := prog_7_method_17_code
def yX4_pass : MethodName := ⟨RX4, "pass", "()V"⟩
abbrev cX4_isBefore : ByteArray := prog_7_method_23_code
def yX4_isBefore : MethodName := ⟨RX4, "isBefore", "(I)Z"⟩
abbrev cX4_nextPlace : ByteArray := prog_7_method_22_code
def yX4_nextPlace : MethodName := ⟨RX4, "nextPlace", "()I"⟩
abbrev cX4_back : ByteArray := prog_7_method_27_code
def yX4_back : MethodName := ⟨RX4, "back", "(I)V"⟩
abbrev cX4_isEnd : ByteArray := prog_7_method_18_code
def yX4_isEnd : MethodName := ⟨RX4, "isEnd", "()Z"⟩
abbrev cX4_wrong : ByteArray := prog_7_method_19_code
def yX4_wrong : MethodName := ⟨RX4, "wrong", "()LOpcodeForge$Fault;"⟩
abbrev cX4_isBeforeEqu : ByteArray := prog_7_method_26_code
def yX4_isBeforeEqu : MethodName := ⟨RX4, "isBeforeEqu", "()Z"⟩
abbrev cX4_want : ByteArray := prog_7_method_20_code
def yX4_want : MethodName := ⟨RX4, "want", "(I)V"⟩
abbrev cX4_isWhole : ByteArray := prog_7_method_28_code
def yX4_isWhole : MethodName := ⟨RX4, "isWhole", "()Z"⟩
abbrev cX4_signBehind : ByteArray := prog_7_method_24_code
def yX4_signBehind : MethodName := ⟨RX4, "signBehind", "()I"⟩
abbrev cX4_isAlone : ByteArray := prog_7_method_25_code
def yX4_isAlone : MethodName := ⟨RX4, "isAlone", "()Z"⟩
abbrev cX4_endLine : ByteArray := prog_7_method_21_code
def yX4_endLine : MethodName := ⟨RX4, "endLine", "()V"⟩
theorem q268 : (Jvm.Cond.initialized "OpcodeForge$Tokens") ∈ lw_all := lw_g (lw_at lw_m1 5 rfl) rfl
theorem q531 : (Jvm.Cond.instantiable "OpcodeForge$Tokens" (9 : Nat)) ∈ lw_all := lw_g (lw_at lw_m2 28 rfl) rfl
theorem q533 : (Jvm.Cond.instanceMethod ({ cls := "OpcodeForge$Tokens", name := "<init>", desc := "()V" } : Jvm.MethodName)) ∈ lw_all := lw_g (lw_at lw_m2 30 rfl) rfl
theorem q534 : (Jvm.Cond.code ({ cls := "OpcodeForge$Tokens", name := "<init>", desc := "()V" } : Jvm.MethodName) prog_7_method_1_code (1 : Nat) (Option.none : Option Jvm.ClassFile.FieldType)) ∈ lw_all := lw_g (lw_at lw_m2 31 rfl) rfl
theorem q535 : (Jvm.Cond.methodLink "OpcodeForge$Tokens" (3 : Nat) ({ cls := "java/lang/Object", name := "<init>", desc := "()V" } : Jvm.MethodName)) ∈ lw_all := lw_g (lw_at lw_m2 32 rfl) rfl
theorem q536 : (Jvm.Cond.fieldLink "OpcodeForge$Tokens" (9 : Nat) "OpcodeForge$Tokens" "row" "[B") ∈ lw_all := lw_g (lw_at lw_m2 33 rfl) rfl
theorem q539 : (Jvm.Cond.fieldLink "OpcodeForge$Tokens" (18 : Nat) "OpcodeForge$Tokens" "size" "I") ∈ lw_all := lw_g (lw_at lw_m2 36 rfl) rfl
theorem q542 : (Jvm.Cond.fieldLink "OpcodeForge$Tokens" (15 : Nat) "OpcodeForge$Tokens" "capitals" "[B") ∈ lw_all := lw_g (lw_at lw_m2 39 rfl) rfl
theorem q544 : (Jvm.Cond.fieldLink "OpcodeForge$Tokens" (22 : Nat) "OpcodeForge$Tokens" "at" "I") ∈ lw_all := lw_g (lw_at lw_m2 41 rfl) rfl
theorem q546 : (Jvm.Cond.fieldLink "OpcodeForge$Tokens" (25 : Nat) "OpcodeForge$Tokens" "read" "Z") ∈ lw_all := lw_g (lw_at lw_m2 43 rfl) rfl
theorem q549 : (Jvm.Cond.fieldLink "OpcodeForge$Tokens" (60 : Nat) "OpcodeForge$Tokens" "kind" "I") ∈ lw_all := lw_g (lw_at lw_m2 46 rfl) rfl
theorem q551 : (Jvm.Cond.fieldLink "OpcodeForge$Tokens" (39 : Nat) "OpcodeForge$Tokens" "from" "I") ∈ lw_all := lw_g (lw_at lw_m2 48 rfl) rfl
theorem q553 : (Jvm.Cond.fieldLink "OpcodeForge$Tokens" (36 : Nat) "OpcodeForge$Tokens" "length" "I") ∈ lw_all := lw_g (lw_at lw_m2 50 rfl) rfl
theorem q555 : (Jvm.Cond.fieldLink "OpcodeForge$Tokens" (63 : Nat) "OpcodeForge$Tokens" "number" "I") ∈ lw_all := lw_g (lw_at lw_m2 52 rfl) rfl
theorem q556 : (Jvm.Cond.laysFinal "OpcodeForge$Tokens" "OpcodeForge$Tokens" "row" "[B") ∈ lw_all := lw_g (lw_at lw_m2 53 rfl) rfl
theorem q557 : (Jvm.Cond.soleField "OpcodeForge$Tokens" "row") ∈ lw_all := lw_g (lw_at lw_m2 54 rfl) rfl
theorem q558 : (Jvm.Cond.lays "OpcodeForge$Tokens" "OpcodeForge$Tokens" "size" "I") ∈ lw_all := lw_g (lw_at lw_m2 55 rfl) rfl
theorem q559 : (Jvm.Cond.soleField "OpcodeForge$Tokens" "size") ∈ lw_all := lw_g (lw_at lw_m2 56 rfl) rfl
theorem q560 : (Jvm.Cond.laysFinal "OpcodeForge$Tokens" "OpcodeForge$Tokens" "capitals" "[B") ∈ lw_all := lw_g (lw_at lw_m2 57 rfl) rfl
theorem q561 : (Jvm.Cond.soleField "OpcodeForge$Tokens" "capitals") ∈ lw_all := lw_g (lw_at lw_m2 58 rfl) rfl
theorem q562 : (Jvm.Cond.lays "OpcodeForge$Tokens" "OpcodeForge$Tokens" "at" "I") ∈ lw_all := lw_g (lw_at lw_m2 59 rfl) rfl
theorem q563 : (Jvm.Cond.soleField "OpcodeForge$Tokens" "at") ∈ lw_all := lw_g (lw_at lw_m2 60 rfl) rfl
theorem q564 : (Jvm.Cond.lays "OpcodeForge$Tokens" "OpcodeForge$Tokens" "read" "Z") ∈ lw_all := lw_g (lw_at lw_m2 61 rfl) rfl
theorem q565 : (Jvm.Cond.soleField "OpcodeForge$Tokens" "read") ∈ lw_all := lw_g (lw_at lw_m2 62 rfl) rfl
theorem q566 : (Jvm.Cond.lays "OpcodeForge$Tokens" "OpcodeForge$Tokens" "kind" "I") ∈ lw_all := lw_g (lw_at lw_m2 63 rfl) rfl
theorem q567 : (Jvm.Cond.soleField "OpcodeForge$Tokens" "kind") ∈ lw_all := lw_g (lw_at lw_m2 64 rfl) rfl
theorem q568 : (Jvm.Cond.lays "OpcodeForge$Tokens" "OpcodeForge$Tokens" "from" "I") ∈ lw_all := lw_g (lw_at lw_m2 65 rfl) rfl
theorem q569 : (Jvm.Cond.soleField "OpcodeForge$Tokens" "from") ∈ lw_all := lw_g (lw_at lw_m2 66 rfl) rfl
theorem q570 : (Jvm.Cond.lays "OpcodeForge$Tokens" "OpcodeForge$Tokens" "length" "I") ∈ lw_all := lw_g (lw_at lw_m2 67 rfl) rfl
theorem q571 : (Jvm.Cond.soleField "OpcodeForge$Tokens" "length") ∈ lw_all := lw_g (lw_at lw_m2 68 rfl) rfl
theorem q572 : (Jvm.Cond.lays "OpcodeForge$Tokens" "OpcodeForge$Tokens" "number" "I") ∈ lw_all := lw_g (lw_at lw_m2 69 rfl) rfl
theorem q573 : (Jvm.Cond.soleField "OpcodeForge$Tokens" "number") ∈ lw_all := lw_g (lw_at lw_m2 70 rfl) rfl
theorem q574 : (Jvm.Cond.superclass "OpcodeForge$Tokens" "java/lang/Object") ∈ lw_all := lw_g (lw_at lw_m2 71 rfl) rfl
theorem q873 : (Jvm.Cond.instanceMethod ({ cls := "OpcodeForge$Tokens", name := "begin", desc := "()V" } : Jvm.MethodName)) ∈ lw_all := lw_g (lw_at lw_m3 130 rfl) rfl
theorem q874 : (Jvm.Cond.selects "OpcodeForge$Tokens" ({ cls := "OpcodeForge$Tokens", name := "begin", desc := "()V" } : Jvm.MethodName) ({ cls := "OpcodeForge$Tokens", name := "begin", desc := "()V" } : Jvm.MethodName)) ∈ lw_all := lw_g (lw_at lw_m3 131 rfl) rfl
theorem q875 : (Jvm.Cond.code ({ cls := "OpcodeForge$Tokens", name := "begin", desc := "()V" } : Jvm.MethodName) prog_7_method_2_code (2 : Nat) (Option.none : Option Jvm.ClassFile.FieldType)) ∈ lw_all := lw_g (lw_at lw_m3 132 rfl) rfl
theorem q956 : (Jvm.Cond.instanceMethod ({ cls := "OpcodeForge$Tokens", name := "look", desc := "()I" } : Jvm.MethodName)) ∈ lw_all := lw_g (lw_at lw_m3 213 rfl) rfl
theorem q957 : (Jvm.Cond.selects "OpcodeForge$Tokens" ({ cls := "OpcodeForge$Tokens", name := "look", desc := "()I" } : Jvm.MethodName) ({ cls := "OpcodeForge$Tokens", name := "look", desc := "()I" } : Jvm.MethodName)) ∈ lw_all := lw_g (lw_at lw_m3 214 rfl) rfl
theorem q958 : (Jvm.Cond.code ({ cls := "OpcodeForge$Tokens", name := "look", desc := "()I" } : Jvm.MethodName) prog_7_method_16_code (1 : Nat) (Option.some Jvm.ClassFile.FieldType.int)) ∈ lw_all := lw_g (lw_at lw_m3 215 rfl) rfl
theorem q959 : (Jvm.Cond.methodLink "OpcodeForge$Tokens" (98 : Nat) ({ cls := "OpcodeForge$Tokens", name := "scan", desc := "()V" } : Jvm.MethodName)) ∈ lw_all := lw_g (lw_at lw_m3 216 rfl) rfl
theorem q960 : (Jvm.Cond.privateMethod ({ cls := "OpcodeForge$Tokens", name := "scan", desc := "()V" } : Jvm.MethodName)) ∈ lw_tbl := lw_at lw_m3 217 rfl
theorem q961 : (Jvm.Cond.instanceMethod ({ cls := "OpcodeForge$Tokens", name := "scan", desc := "()V" } : Jvm.MethodName)) ∈ lw_all := lw_g (lw_at lw_m3 218 rfl) rfl
theorem q962 : (Jvm.Cond.code ({ cls := "OpcodeForge$Tokens", name := "scan", desc := "()V" } : Jvm.MethodName) prog_7_method_15_code (4 : Nat) (Option.none : Option Jvm.ClassFile.FieldType)) ∈ lw_all := lw_g (lw_at lw_m3 219 rfl) rfl
theorem q963 : (Jvm.Cond.methodLink "OpcodeForge$Tokens" (75 : Nat) ({ cls := "OpcodeForge$Tokens", name := "skipBlanks", desc := "()V" } : Jvm.MethodName)) ∈ lw_all := lw_g (lw_at lw_m3 220 rfl) rfl
theorem q964 : (Jvm.Cond.privateMethod ({ cls := "OpcodeForge$Tokens", name := "skipBlanks", desc := "()V" } : Jvm.MethodName)) ∈ lw_tbl := lw_at lw_m3 221 rfl
theorem q965 : (Jvm.Cond.instanceMethod ({ cls := "OpcodeForge$Tokens", name := "skipBlanks", desc := "()V" } : Jvm.MethodName)) ∈ lw_all := lw_g (lw_at lw_m3 222 rfl) rfl
theorem q966 : (Jvm.Cond.code ({ cls := "OpcodeForge$Tokens", name := "skipBlanks", desc := "()V" } : Jvm.MethodName) prog_7_method_7_code (1 : Nat) (Option.none : Option Jvm.ClassFile.FieldType)) ∈ lw_all := lw_g (lw_at lw_m3 223 rfl) rfl
theorem q967 : (Jvm.Cond.methodLink "OpcodeForge$Tokens" (42 : Nat) ({ cls := "OpcodeForge$Tokens", name := "signAt", desc := "(I)I" } : Jvm.MethodName)) ∈ lw_all := lw_g (lw_at lw_m3 224 rfl) rfl
theorem q968 : (Jvm.Cond.privateMethod ({ cls := "OpcodeForge$Tokens", name := "signAt", desc := "(I)I" } : Jvm.MethodName)) ∈ lw_tbl := lw_at lw_m3 225 rfl
theorem q969 : (Jvm.Cond.instanceMethod ({ cls := "OpcodeForge$Tokens", name := "signAt", desc := "(I)I" } : Jvm.MethodName)) ∈ lw_all := lw_g (lw_at lw_m3 226 rfl) rfl
theorem q970 : (Jvm.Cond.code ({ cls := "OpcodeForge$Tokens", name := "signAt", desc := "(I)I" } : Jvm.MethodName) prog_7_method_3_code (2 : Nat) (Option.some Jvm.ClassFile.FieldType.int)) ∈ lw_all := lw_g (lw_at lw_m3 227 rfl) rfl
theorem q971 : (Jvm.Cond.methodLink "OpcodeForge$Tokens" (29 : Nat) ({ cls := "OpcodeForge$Tokens", name := "isNameStart", desc := "(I)Z" } : Jvm.MethodName)) ∈ lw_all := lw_g (lw_at lw_m3 228 rfl) rfl
theorem q972 : (Jvm.Cond.static ({ cls := "OpcodeForge$Tokens", name := "isNameStart", desc := "(I)Z" } : Jvm.MethodName)) ∈ lw_all := lw_g (lw_at lw_m3 229 rfl) rfl
theorem q973 : (Jvm.Cond.code ({ cls := "OpcodeForge$Tokens", name := "isNameStart", desc := "(I)Z" } : Jvm.MethodName) prog_7_method_5_code (1 : Nat) (Option.some Jvm.ClassFile.FieldType.boolean)) ∈ lw_all := lw_g (lw_at lw_m3 230 rfl) rfl
theorem q974 : (Jvm.Cond.methodLink "OpcodeForge$Tokens" (78 : Nat) ({ cls := "OpcodeForge$Tokens", name := "scanName", desc := "()V" } : Jvm.MethodName)) ∈ lw_all := lw_g (lw_at lw_m3 231 rfl) rfl
theorem q975 : (Jvm.Cond.privateMethod ({ cls := "OpcodeForge$Tokens", name := "scanName", desc := "()V" } : Jvm.MethodName)) ∈ lw_tbl := lw_at lw_m3 232 rfl
theorem q976 : (Jvm.Cond.instanceMethod ({ cls := "OpcodeForge$Tokens", name := "scanName", desc := "()V" } : Jvm.MethodName)) ∈ lw_all := lw_g (lw_at lw_m3 233 rfl) rfl
theorem q977 : (Jvm.Cond.code ({ cls := "OpcodeForge$Tokens", name := "scanName", desc := "()V" } : Jvm.MethodName) prog_7_method_14_code (2 : Nat) (Option.none : Option Jvm.ClassFile.FieldType)) ∈ lw_all := lw_g (lw_at lw_m3 234 rfl) rfl
theorem q978 : (Jvm.Cond.methodLink "OpcodeForge$Tokens" (72 : Nat) ({ cls := "OpcodeForge$Tokens", name := "isNamePart", desc := "(I)Z" } : Jvm.MethodName)) ∈ lw_all := lw_g (lw_at lw_m3 235 rfl) rfl
theorem q979 : (Jvm.Cond.static ({ cls := "OpcodeForge$Tokens", name := "isNamePart", desc := "(I)Z" } : Jvm.MethodName)) ∈ lw_all := lw_g (lw_at lw_m3 236 rfl) rfl
theorem q980 : (Jvm.Cond.code ({ cls := "OpcodeForge$Tokens", name := "isNamePart", desc := "(I)Z" } : Jvm.MethodName) prog_7_method_6_code (1 : Nat) (Option.some Jvm.ClassFile.FieldType.boolean)) ∈ lw_all := lw_g (lw_at lw_m3 237 rfl) rfl
theorem q981 : (Jvm.Cond.methodLink "OpcodeForge$Tokens" (33 : Nat) ({ cls := "OpcodeForge$Tokens", name := "isDigit", desc := "(I)Z" } : Jvm.MethodName)) ∈ lw_all := lw_g (lw_at lw_m3 238 rfl) rfl
theorem q982 : (Jvm.Cond.static ({ cls := "OpcodeForge$Tokens", name := "isDigit", desc := "(I)Z" } : Jvm.MethodName)) ∈ lw_all := lw_g (lw_at lw_m3 239 rfl) rfl
theorem q983 : (Jvm.Cond.code ({ cls := "OpcodeForge$Tokens", name := "isDigit", desc := "(I)Z" } : Jvm.MethodName) prog_7_method_4_code (1 : Nat) (Option.some Jvm.ClassFile.FieldType.boolean)) ∈ lw_all := lw_g (lw_at lw_m4 0 rfl) rfl
theorem q984 : (Jvm.Cond.methodLink "OpcodeForge$Tokens" (81 : Nat) ({ cls := "OpcodeForge$Tokens", name := "scanNumber", desc := "(II)V" } : Jvm.MethodName)) ∈ lw_all := lw_g (lw_at lw_m4 1 rfl) rfl
theorem q985 : (Jvm.Cond.privateMethod ({ cls := "OpcodeForge$Tokens", name := "scanNumber", desc := "(II)V" } : Jvm.MethodName)) ∈ lw_tbl := lw_at lw_m4 2 rfl
theorem q986 : (Jvm.Cond.instanceMethod ({ cls := "OpcodeForge$Tokens", name := "scanNumber", desc := "(II)V" } : Jvm.MethodName)) ∈ lw_all := lw_g (lw_at lw_m4 3 rfl) rfl
theorem q987 : (Jvm.Cond.code ({ cls := "OpcodeForge$Tokens", name := "scanNumber", desc := "(II)V" } : Jvm.MethodName) prog_7_method_9_code (5 : Nat) (Option.none : Option Jvm.ClassFile.FieldType)) ∈ lw_all := lw_g (lw_at lw_m4 4 rfl) rfl
theorem q988 : (Jvm.Cond.methodLink "OpcodeForge$Tokens" (46 : Nat) ({ cls := "OpcodeForge$Tokens", name := "digit", desc := "(II)I" } : Jvm.MethodName)) ∈ lw_all := lw_g (lw_at lw_m4 5 rfl) rfl
theorem q989 : (Jvm.Cond.static ({ cls := "OpcodeForge$Tokens", name := "digit", desc := "(II)I" } : Jvm.MethodName)) ∈ lw_all := lw_g (lw_at lw_m4 6 rfl) rfl
theorem q990 : (Jvm.Cond.code ({ cls := "OpcodeForge$Tokens", name := "digit", desc := "(II)I" } : Jvm.MethodName) prog_7_method_8_code (3 : Nat) (Option.some Jvm.ClassFile.FieldType.int)) ∈ lw_all := lw_g (lw_at lw_m4 7 rfl) rfl
theorem q991 : (Jvm.Cond.constantLong "OpcodeForge$Tokens" (50 : Nat) (100000 : Int64)) ∈ lw_all := lw_g (lw_at lw_m4 8 rfl) rfl
theorem q992 : (Jvm.Cond.methodLink "OpcodeForge$Tokens" (52 : Nat) ({ cls := "java/lang/Math", name := "min", desc := "(JJ)J" } : Jvm.MethodName)) ∈ lw_all := lw_g (lw_at lw_m4 9 rfl) rfl
theorem q995 : (Jvm.Cond.constantLong "OpcodeForge$Tokens" (58 : Nat) (65535 : Int64)) ∈ lw_all := lw_g (lw_at lw_m4 12 rfl) rfl
theorem q996 : (Jvm.Cond.methodLink "OpcodeForge$Tokens" (85 : Nat) ({ cls := "OpcodeForge$Tokens", name := "scanSign", desc := "()V" } : Jvm.MethodName)) ∈ lw_all := lw_g (lw_at lw_m4 13 rfl) rfl
theorem q997 : (Jvm.Cond.privateMethod ({ cls := "OpcodeForge$Tokens", name := "scanSign", desc := "()V" } : Jvm.MethodName)) ∈ lw_tbl := lw_at lw_m4 14 rfl
theorem q998 : (Jvm.Cond.instanceMethod ({ cls := "OpcodeForge$Tokens", name := "scanSign", desc := "()V" } : Jvm.MethodName)) ∈ lw_all := lw_g (lw_at lw_m4 15 rfl) rfl
theorem q999 : (Jvm.Cond.code ({ cls := "OpcodeForge$Tokens", name := "scanSign", desc := "()V" } : Jvm.MethodName) prog_7_method_12_code (1 : Nat) (Option.none : Option Jvm.ClassFile.FieldType)) ∈ lw_all := lw_g (lw_at lw_m4 16 rfl) rfl
theorem q1000 : (Jvm.Cond.methodLink "OpcodeForge$Tokens" (66 : Nat) ({ cls := "OpcodeForge$Tokens", name := "byteAt", desc := "(I)I" } : Jvm.MethodName)) ∈ lw_all := lw_g (lw_at lw_m4 17 rfl) rfl
theorem q1001 : (Jvm.Cond.privateMethod ({ cls := "OpcodeForge$Tokens", name := "byteAt", desc := "(I)I" } : Jvm.MethodName)) ∈ lw_tbl := lw_at lw_m4 18 rfl
theorem q1002 : (Jvm.Cond.instanceMethod ({ cls := "OpcodeForge$Tokens", name := "byteAt", desc := "(I)I" } : Jvm.MethodName)) ∈ lw_all := lw_g (lw_at lw_m4 19 rfl) rfl
theorem q1003 : (Jvm.Cond.code ({ cls := "OpcodeForge$Tokens", name := "byteAt", desc := "(I)I" } : Jvm.MethodName) prog_7_method_11_code (2 : Nat) (Option.some Jvm.ClassFile.FieldType.int)) ∈ lw_all := lw_g (lw_at lw_m4 20 rfl) rfl
theorem q1004 : (Jvm.Cond.methodLink "OpcodeForge$Tokens" (69 : Nat) ({ cls := "OpcodeForge$Tokens", name := "isShown", desc := "(I)Z" } : Jvm.MethodName)) ∈ lw_all := lw_g (lw_at lw_m4 21 rfl) rfl
theorem q1005 : (Jvm.Cond.static ({ cls := "OpcodeForge$Tokens", name := "isShown", desc := "(I)Z" } : Jvm.MethodName)) ∈ lw_all := lw_g (lw_at lw_m4 22 rfl) rfl
theorem q1006 : (Jvm.Cond.code ({ cls := "OpcodeForge$Tokens", name := "isShown", desc := "(I)Z" } : Jvm.MethodName) prog_7_method_10_code (1 : Nat) (Option.some Jvm.ClassFile.FieldType.boolean)) ∈ lw_all := lw_g (lw_at lw_m4 23 rfl) rfl
theorem q1007 : (Jvm.Cond.methodLink "OpcodeForge$Tokens" (88 : Nat) ({ cls := "OpcodeForge$Tokens", name := "scanText", desc := "()V" } : Jvm.MethodName)) ∈ lw_all := lw_g (lw_at lw_m4 24 rfl) rfl
theorem q1008 : (Jvm.Cond.privateMethod ({ cls := "OpcodeForge$Tokens", name := "scanText", desc := "()V" } : Jvm.MethodName)) ∈ lw_tbl := lw_at lw_m4 25 rfl
theorem q1009 : (Jvm.Cond.instanceMethod ({ cls := "OpcodeForge$Tokens", name := "scanText", desc := "()V" } : Jvm.MethodName)) ∈ lw_all := lw_g (lw_at lw_m4 26 rfl) rfl
theorem q1010 : (Jvm.Cond.code ({ cls := "OpcodeForge$Tokens", name := "scanText", desc := "()V" } : Jvm.MethodName) prog_7_method_13_code (1 : Nat) (Option.none : Option Jvm.ClassFile.FieldType)) ∈ lw_all := lw_g (lw_at lw_m4 27 rfl) rfl
theorem q1011 : (Jvm.Cond.stringRef "OpcodeForge$Tokens" (91 : Nat) "(),:+-*/&|^~@") ∈ lw_tbl := lw_at lw_m4 28 rfl
theorem q1012 : (Jvm.Cond.methodLink "OpcodeForge$Tokens" (93 : Nat) ({ cls := "java/lang/String", name := "indexOf", desc := "(I)I" } : Jvm.MethodName)) ∈ lw_all := lw_g (lw_at lw_m4 29 rfl) rfl
theorem q1099 : (Jvm.Cond.instanceMethod ({ cls := "OpcodeForge$Tokens", name := "pass", desc := "()V" } : Jvm.MethodName)) ∈ lw_all := lw_g (lw_at lw_m4 116 rfl) rfl
theorem q1100 : (Jvm.Cond.selects "OpcodeForge$Tokens" ({ cls := "OpcodeForge$Tokens", name := "pass", desc := "()V" } : Jvm.MethodName) ({ cls := "OpcodeForge$Tokens", name := "pass", desc := "()V" } : Jvm.MethodName)) ∈ lw_all := lw_g (lw_at lw_m4 117 rfl) rfl
theorem q1101 : (Jvm.Cond.code ({ cls := "OpcodeForge$Tokens", name := "pass", desc := "()V" } : Jvm.MethodName) prog_7_method_17_code (1 : Nat) (Option.none : Option Jvm.ClassFile.FieldType)) ∈ lw_all := lw_g (lw_at lw_m4 118 rfl) rfl
theorem q1103 : (Jvm.Cond.instanceMethod ({ cls := "OpcodeForge$Tokens", name := "isBefore", desc := "(I)Z" } : Jvm.MethodName)) ∈ lw_all := lw_g (lw_at lw_m4 120 rfl) rfl
theorem q1104 : (Jvm.Cond.selects "OpcodeForge$Tokens" ({ cls := "OpcodeForge$Tokens", name := "isBefore", desc := "(I)Z" } : Jvm.MethodName) ({ cls := "OpcodeForge$Tokens", name := "isBefore", desc := "(I)Z" } : Jvm.MethodName)) ∈ lw_all := lw_g (lw_at lw_m4 121 rfl) rfl
theorem q1105 : (Jvm.Cond.code ({ cls := "OpcodeForge$Tokens", name := "isBefore", desc := "(I)Z" } : Jvm.MethodName) prog_7_method_23_code (2 : Nat) (Option.some Jvm.ClassFile.FieldType.boolean)) ∈ lw_all := lw_g (lw_at lw_m4 122 rfl) rfl
theorem q1106 : (Jvm.Cond.methodLink "OpcodeForge$Tokens" (116 : Nat) ({ cls := "OpcodeForge$Tokens", name := "nextPlace", desc := "()I" } : Jvm.MethodName)) ∈ lw_all := lw_g (lw_at lw_m4 123 rfl) rfl
theorem q1107 : (Jvm.Cond.privateMethod ({ cls := "OpcodeForge$Tokens", name := "nextPlace", desc := "()I" } : Jvm.MethodName)) ∈ lw_tbl := lw_at lw_m4 124 rfl
theorem q1108 : (Jvm.Cond.instanceMethod ({ cls := "OpcodeForge$Tokens", name := "nextPlace", desc := "()I" } : Jvm.MethodName)) ∈ lw_all := lw_g (lw_at lw_m4 125 rfl) rfl
theorem q1109 : (Jvm.Cond.code ({ cls := "OpcodeForge$Tokens", name := "nextPlace", desc := "()I" } : Jvm.MethodName) prog_7_method_22_code (2 : Nat) (Option.some Jvm.ClassFile.FieldType.int)) ∈ lw_all := lw_g (lw_at lw_m4 126 rfl) rfl
theorem q1158 : (Jvm.Cond.instanceMethod ({ cls := "OpcodeForge$Tokens", name := "back", desc := "(I)V" } : Jvm.MethodName)) ∈ lw_all := lw_g (lw_at lw_m4 175 rfl) rfl
theorem q1159 : (Jvm.Cond.selects "OpcodeForge$Tokens" ({ cls := "OpcodeForge$Tokens", name := "back", desc := "(I)V" } : Jvm.MethodName) ({ cls := "OpcodeForge$Tokens", name := "back", desc := "(I)V" } : Jvm.MethodName)) ∈ lw_all := lw_g (lw_at lw_m4 176 rfl) rfl
theorem q1160 : (Jvm.Cond.code ({ cls := "OpcodeForge$Tokens", name := "back", desc := "(I)V" } : Jvm.MethodName) prog_7_method_27_code (2 : Nat) (Option.none : Option Jvm.ClassFile.FieldType)) ∈ lw_all := lw_g (lw_at lw_m4 177 rfl) rfl
theorem q1166 : (Jvm.Cond.instanceMethod ({ cls := "OpcodeForge$Tokens", name := "isEnd", desc := "()Z" } : Jvm.MethodName)) ∈ lw_all := lw_g (lw_at lw_m4 183 rfl) rfl
theorem q1167 : (Jvm.Cond.selects "OpcodeForge$Tokens" ({ cls := "OpcodeForge$Tokens", name := "isEnd", desc := "()Z" } : Jvm.MethodName) ({ cls := "OpcodeForge$Tokens", name := "isEnd", desc := "()Z" } : Jvm.MethodName)) ∈ lw_all := lw_g (lw_at lw_m4 184 rfl) rfl
theorem q1168 : (Jvm.Cond.code ({ cls := "OpcodeForge$Tokens", name := "isEnd", desc := "()Z" } : Jvm.MethodName) prog_7_method_18_code (1 : Nat) (Option.some Jvm.ClassFile.FieldType.boolean)) ∈ lw_all := lw_g (lw_at lw_m4 185 rfl) rfl
theorem q1169 : (Jvm.Cond.methodLink "OpcodeForge$Tokens" (101 : Nat) ({ cls := "OpcodeForge$Tokens", name := "look", desc := "()I" } : Jvm.MethodName)) ∈ lw_all := lw_g (lw_at lw_m4 186 rfl) rfl
theorem q1171 : (Jvm.Cond.instanceMethod ({ cls := "OpcodeForge$Tokens", name := "wrong", desc := "()LOpcodeForge$Fault;" } : Jvm.MethodName)) ∈ lw_all := lw_g (lw_at lw_m4 188 rfl) rfl
theorem q1172 : (Jvm.Cond.selects "OpcodeForge$Tokens" ({ cls := "OpcodeForge$Tokens", name := "wrong", desc := "()LOpcodeForge$Fault;" } : Jvm.MethodName) ({ cls := "OpcodeForge$Tokens", name := "wrong", desc := "()LOpcodeForge$Fault;" } : Jvm.MethodName)) ∈ lw_all := lw_g (lw_at lw_m4 189 rfl) rfl
theorem q1173 : (Jvm.Cond.code ({ cls := "OpcodeForge$Tokens", name := "wrong", desc := "()LOpcodeForge$Fault;" } : Jvm.MethodName) prog_7_method_19_code (1 : Nat) (Option.some (Jvm.ClassFile.FieldType.object "OpcodeForge$Fault"))) ∈ lw_all := lw_g (lw_at lw_m4 190 rfl) rfl
theorem q1174 : (Jvm.Cond.classLink "OpcodeForge$Tokens" (105 : Nat) "OpcodeForge$Fault") ∈ lw_all := lw_g (lw_at lw_m4 191 rfl) rfl
theorem q1175 : (Jvm.Cond.methodLink "OpcodeForge$Tokens" (107 : Nat) ({ cls := "OpcodeForge$Fault", name := "<init>", desc := "(II)V" } : Jvm.MethodName)) ∈ lw_all := lw_g (lw_at lw_m4 192 rfl) rfl
theorem q1185 : (Jvm.Cond.instanceMethod ({ cls := "OpcodeForge$Tokens", name := "isBeforeEqu", desc := "()Z" } : Jvm.MethodName)) ∈ lw_all := lw_g (lw_at lw_m4 202 rfl) rfl
theorem q1186 : (Jvm.Cond.selects "OpcodeForge$Tokens" ({ cls := "OpcodeForge$Tokens", name := "isBeforeEqu", desc := "()Z" } : Jvm.MethodName) ({ cls := "OpcodeForge$Tokens", name := "isBeforeEqu", desc := "()Z" } : Jvm.MethodName)) ∈ lw_all := lw_g (lw_at lw_m4 203 rfl) rfl
theorem q1187 : (Jvm.Cond.code ({ cls := "OpcodeForge$Tokens", name := "isBeforeEqu", desc := "()Z" } : Jvm.MethodName) prog_7_method_26_code (2 : Nat) (Option.some Jvm.ClassFile.FieldType.boolean)) ∈ lw_all := lw_g (lw_at lw_m4 204 rfl) rfl
theorem q1239 : (Jvm.Cond.instanceMethod ({ cls := "OpcodeForge$Tokens", name := "want", desc := "(I)V" } : Jvm.MethodName)) ∈ lw_all := lw_g (lw_at lw_m5 16 rfl) rfl
theorem q1240 : (Jvm.Cond.selects "OpcodeForge$Tokens" ({ cls := "OpcodeForge$Tokens", name := "want", desc := "(I)V" } : Jvm.MethodName) ({ cls := "OpcodeForge$Tokens", name := "want", desc := "(I)V" } : Jvm.MethodName)) ∈ lw_all := lw_g (lw_at lw_m5 17 rfl) rfl
theorem q1241 : (Jvm.Cond.code ({ cls := "OpcodeForge$Tokens", name := "want", desc := "(I)V" } : Jvm.MethodName) prog_7_method_20_code (2 : Nat) (Option.none : Option Jvm.ClassFile.FieldType)) ∈ lw_all := lw_g (lw_at lw_m5 18 rfl) rfl
theorem q1242 : (Jvm.Cond.methodLink "OpcodeForge$Tokens" (109 : Nat) ({ cls := "OpcodeForge$Tokens", name := "wrong", desc := "()LOpcodeForge$Fault;" } : Jvm.MethodName)) ∈ lw_all := lw_g (lw_at lw_m5 19 rfl) rfl
theorem q1243 : (Jvm.Cond.methodLink "OpcodeForge$Tokens" (113 : Nat) ({ cls := "OpcodeForge$Tokens", name := "pass", desc := "()V" } : Jvm.MethodName)) ∈ lw_all := lw_g (lw_at lw_m5 20 rfl) rfl
theorem q1258 : (Jvm.Cond.instanceMethod ({ cls := "OpcodeForge$Tokens", name := "isWhole", desc := "()Z" } : Jvm.MethodName)) ∈ lw_all := lw_g (lw_at lw_m5 35 rfl) rfl
theorem q1259 : (Jvm.Cond.selects "OpcodeForge$Tokens" ({ cls := "OpcodeForge$Tokens", name := "isWhole", desc := "()Z" } : Jvm.MethodName) ({ cls := "OpcodeForge$Tokens", name := "isWhole", desc := "()Z" } : Jvm.MethodName)) ∈ lw_all := lw_g (lw_at lw_m5 36 rfl) rfl
theorem q1260 : (Jvm.Cond.code ({ cls := "OpcodeForge$Tokens", name := "isWhole", desc := "()Z" } : Jvm.MethodName) prog_7_method_28_code (6 : Nat) (Option.some Jvm.ClassFile.FieldType.boolean)) ∈ lw_all := lw_g (lw_at lw_m5 37 rfl) rfl
theorem q1261 : (Jvm.Cond.methodLink "OpcodeForge$Tokens" (119 : Nat) ({ cls := "OpcodeForge$Tokens", name := "isEnd", desc := "()Z" } : Jvm.MethodName)) ∈ lw_all := lw_g (lw_at lw_m5 38 rfl) rfl
theorem q1262 : (Jvm.Cond.methodLink "OpcodeForge$Tokens" (123 : Nat) ({ cls := "OpcodeForge$Tokens", name := "back", desc := "(I)V" } : Jvm.MethodName)) ∈ lw_all := lw_g (lw_at lw_m5 39 rfl) rfl
theorem q1268 : (Jvm.Cond.instanceMethod ({ cls := "OpcodeForge$Tokens", name := "signBehind", desc := "()I" } : Jvm.MethodName)) ∈ lw_all := lw_g (lw_at lw_m5 45 rfl) rfl
theorem q1269 : (Jvm.Cond.selects "OpcodeForge$Tokens" ({ cls := "OpcodeForge$Tokens", name := "signBehind", desc := "()I" } : Jvm.MethodName) ({ cls := "OpcodeForge$Tokens", name := "signBehind", desc := "()I" } : Jvm.MethodName)) ∈ lw_all := lw_g (lw_at lw_m5 46 rfl) rfl
theorem q1270 : (Jvm.Cond.code ({ cls := "OpcodeForge$Tokens", name := "signBehind", desc := "()I" } : Jvm.MethodName) prog_7_method_24_code (2 : Nat) (Option.some Jvm.ClassFile.FieldType.int)) ∈ lw_all := lw_g (lw_at lw_m5 47 rfl) rfl
theorem q1280 : (Jvm.Cond.instanceMethod ({ cls := "OpcodeForge$Tokens", name := "isAlone", desc := "()Z" } : Jvm.MethodName)) ∈ lw_all := lw_g (lw_at lw_m5 57 rfl) rfl
theorem q1281 : (Jvm.Cond.selects "OpcodeForge$Tokens" ({ cls := "OpcodeForge$Tokens", name := "isAlone", desc := "()Z" } : Jvm.MethodName) ({ cls := "OpcodeForge$Tokens", name := "isAlone", desc := "()Z" } : Jvm.MethodName)) ∈ lw_all := lw_g (lw_at lw_m5 58 rfl) rfl
theorem q1282 : (Jvm.Cond.code ({ cls := "OpcodeForge$Tokens", name := "isAlone", desc := "()Z" } : Jvm.MethodName) prog_7_method_25_code (3 : Nat) (Option.some Jvm.ClassFile.FieldType.boolean)) ∈ lw_all := lw_g (lw_at lw_m5 59 rfl) rfl
theorem q1381 : (Jvm.Cond.instanceMethod ({ cls := "OpcodeForge$Tokens", name := "endLine", desc := "()V" } : Jvm.MethodName)) ∈ lw_all := lw_g (lw_at lw_m5 158 rfl) rfl
theorem q1382 : (Jvm.Cond.selects "OpcodeForge$Tokens" ({ cls := "OpcodeForge$Tokens", name := "endLine", desc := "()V" } : Jvm.MethodName) ({ cls := "OpcodeForge$Tokens", name := "endLine", desc := "()V" } : Jvm.MethodName)) ∈ lw_all := lw_g (lw_at lw_m5 159 rfl) rfl
theorem q1383 : (Jvm.Cond.code ({ cls := "OpcodeForge$Tokens", name := "endLine", desc := "()V" } : Jvm.MethodName) prog_7_method_21_code (1 : Nat) (Option.none : Option Jvm.ClassFile.FieldType)) ∈ lw_all := lw_g (lw_at lw_m5 160 rfl) rfl
theorem in_X4 : ∀ w ∈ wsX40, w ∈ lw_all := lw_in wsX40 [556, 558, 560, 562, 564, 566, 568, 570, 572] (by decide +kernel) (by decide +kernel)
def RX5 : String := "OpcodeForge$Labels"
def TX5 : u_T := fun k => match k with
  | 0 => ("OpcodeForge$Labels", "signs", "[B", true)
  | 1 => ("OpcodeForge$Labels", "lengths", "[I", true)
  | 2 => ("OpcodeForge$Labels", "values", "[I", true)
  | _ => ("OpcodeForge$Labels", "count", "I", false)
def tyX5 : Nat → FieldType := fun k => match k with
  | 0 => .array .byte
  | 1 => .array .int
  | 2 => .array .int
  | _ => .int
abbrev wsX50 : List Cond := u_ws RX5 TX5 4
theorem nmX5 : ∀ a, a < 4 → ∀ b, b < 4 → a ≠ b → (TX5 a).2.1 ≠ (TX5 b).2.1 := by decide +kernel
theorem tyX5_ok : ∀ k, k < 4 → parseFieldDescriptor (TX5 k).2.2.1 = some (tyX5 k) := by decide +kernel
abbrev cX5_init : ByteArray := prog_5_method_1_code
def yX5_init : MethodName := ⟨RX5, "<init>", "()V"⟩
abbrev cX5_find : ByteArray := prog_5_method_2_code
def yX5_find : MethodName := ⟨RX5, "find", "([BII)I"⟩
abbrev cX5_isNamed : ByteArray := prog_5_method_3_code
def yX5_isNamed : MethodName := ⟨RX5, "isNamed", "(I[BII)Z"⟩
abbrev cX5_add : ByteArray := prog_5_method_4_code
def yX5_add : MethodName := ⟨RX5, "add", "([BIII)V"⟩
abbrev cX5_copy : ByteArray := prog_5_method_5_code
def yX5_copy : MethodName := ⟨RX5, "copy", "(LOpcodeForge$Labels;)V"⟩
theorem q269 : (Jvm.Cond.initialized "OpcodeForge$Labels") ∈ lw_all := lw_g (lw_at lw_m1 6 rfl) rfl
theorem q576 : (Jvm.Cond.instantiable "OpcodeForge$Labels" (4 : Nat)) ∈ lw_all := lw_g (lw_at lw_m2 73 rfl) rfl
theorem q578 : (Jvm.Cond.instanceMethod ({ cls := "OpcodeForge$Labels", name := "<init>", desc := "()V" } : Jvm.MethodName)) ∈ lw_all := lw_g (lw_at lw_m2 75 rfl) rfl
theorem q579 : (Jvm.Cond.code ({ cls := "OpcodeForge$Labels", name := "<init>", desc := "()V" } : Jvm.MethodName) prog_5_method_1_code (1 : Nat) (Option.none : Option Jvm.ClassFile.FieldType)) ∈ lw_all := lw_g (lw_at lw_m2 76 rfl) rfl
theorem q580 : (Jvm.Cond.methodLink "OpcodeForge$Labels" (3 : Nat) ({ cls := "java/lang/Object", name := "<init>", desc := "()V" } : Jvm.MethodName)) ∈ lw_all := lw_g (lw_at lw_m2 77 rfl) rfl
theorem q581 : (Jvm.Cond.fieldLink "OpcodeForge$Labels" (9 : Nat) "OpcodeForge$Labels" "signs" "[B") ∈ lw_all := lw_g (lw_at lw_m2 78 rfl) rfl
theorem q583 : (Jvm.Cond.fieldLink "OpcodeForge$Labels" (15 : Nat) "OpcodeForge$Labels" "lengths" "[I") ∈ lw_all := lw_g (lw_at lw_m2 80 rfl) rfl
theorem q585 : (Jvm.Cond.fieldLink "OpcodeForge$Labels" (19 : Nat) "OpcodeForge$Labels" "values" "[I") ∈ lw_all := lw_g (lw_at lw_m2 82 rfl) rfl
theorem q588 : (Jvm.Cond.fieldLink "OpcodeForge$Labels" (22 : Nat) "OpcodeForge$Labels" "count" "I") ∈ lw_all := lw_g (lw_at lw_m2 85 rfl) rfl
theorem q591 : (Jvm.Cond.laysFinal "OpcodeForge$Labels" "OpcodeForge$Labels" "signs" "[B") ∈ lw_all := lw_g (lw_at lw_m2 88 rfl) rfl
theorem q592 : (Jvm.Cond.soleField "OpcodeForge$Labels" "signs") ∈ lw_all := lw_g (lw_at lw_m2 89 rfl) rfl
theorem q593 : (Jvm.Cond.laysFinal "OpcodeForge$Labels" "OpcodeForge$Labels" "lengths" "[I") ∈ lw_all := lw_g (lw_at lw_m2 90 rfl) rfl
theorem q594 : (Jvm.Cond.soleField "OpcodeForge$Labels" "lengths") ∈ lw_all := lw_g (lw_at lw_m2 91 rfl) rfl
theorem q595 : (Jvm.Cond.laysFinal "OpcodeForge$Labels" "OpcodeForge$Labels" "values" "[I") ∈ lw_all := lw_g (lw_at lw_m2 92 rfl) rfl
theorem q596 : (Jvm.Cond.soleField "OpcodeForge$Labels" "values") ∈ lw_all := lw_g (lw_at lw_m2 93 rfl) rfl
theorem q597 : (Jvm.Cond.lays "OpcodeForge$Labels" "OpcodeForge$Labels" "count" "I") ∈ lw_all := lw_g (lw_at lw_m2 94 rfl) rfl
theorem q598 : (Jvm.Cond.soleField "OpcodeForge$Labels" "count") ∈ lw_all := lw_g (lw_at lw_m2 95 rfl) rfl
theorem q599 : (Jvm.Cond.superclass "OpcodeForge$Labels" "java/lang/Object") ∈ lw_all := lw_g (lw_at lw_m2 96 rfl) rfl
theorem q1143 : (Jvm.Cond.instanceMethod ({ cls := "OpcodeForge$Labels", name := "find", desc := "([BII)I" } : Jvm.MethodName)) ∈ lw_all := lw_g (lw_at lw_m4 160 rfl) rfl
theorem q1144 : (Jvm.Cond.selects "OpcodeForge$Labels" ({ cls := "OpcodeForge$Labels", name := "find", desc := "([BII)I" } : Jvm.MethodName) ({ cls := "OpcodeForge$Labels", name := "find", desc := "([BII)I" } : Jvm.MethodName)) ∈ lw_all := lw_g (lw_at lw_m4 161 rfl) rfl
theorem q1145 : (Jvm.Cond.code ({ cls := "OpcodeForge$Labels", name := "find", desc := "([BII)I" } : Jvm.MethodName) prog_5_method_2_code (5 : Nat) (Option.some Jvm.ClassFile.FieldType.int)) ∈ lw_all := lw_g (lw_at lw_m4 162 rfl) rfl
theorem q1146 : (Jvm.Cond.methodLink "OpcodeForge$Labels" (26 : Nat) ({ cls := "OpcodeForge$Labels", name := "isNamed", desc := "(I[BII)Z" } : Jvm.MethodName)) ∈ lw_all := lw_g (lw_at lw_m4 163 rfl) rfl
theorem q1147 : (Jvm.Cond.privateMethod ({ cls := "OpcodeForge$Labels", name := "isNamed", desc := "(I[BII)Z" } : Jvm.MethodName)) ∈ lw_tbl := lw_at lw_m4 164 rfl
theorem q1148 : (Jvm.Cond.instanceMethod ({ cls := "OpcodeForge$Labels", name := "isNamed", desc := "(I[BII)Z" } : Jvm.MethodName)) ∈ lw_all := lw_g (lw_at lw_m4 165 rfl) rfl
theorem q1149 : (Jvm.Cond.code ({ cls := "OpcodeForge$Labels", name := "isNamed", desc := "(I[BII)Z" } : Jvm.MethodName) prog_5_method_3_code (7 : Nat) (Option.some Jvm.ClassFile.FieldType.boolean)) ∈ lw_all := lw_g (lw_at lw_m4 166 rfl) rfl
theorem q1151 : (Jvm.Cond.instanceMethod ({ cls := "OpcodeForge$Labels", name := "add", desc := "([BIII)V" } : Jvm.MethodName)) ∈ lw_all := lw_g (lw_at lw_m4 168 rfl) rfl
theorem q1152 : (Jvm.Cond.selects "OpcodeForge$Labels" ({ cls := "OpcodeForge$Labels", name := "add", desc := "([BIII)V" } : Jvm.MethodName) ({ cls := "OpcodeForge$Labels", name := "add", desc := "([BIII)V" } : Jvm.MethodName)) ∈ lw_all := lw_g (lw_at lw_m4 169 rfl) rfl
theorem q1153 : (Jvm.Cond.code ({ cls := "OpcodeForge$Labels", name := "add", desc := "([BIII)V" } : Jvm.MethodName) prog_5_method_4_code (5 : Nat) (Option.none : Option Jvm.ClassFile.FieldType)) ∈ lw_all := lw_g (lw_at lw_m4 170 rfl) rfl
theorem q1154 : (Jvm.Cond.methodLink "OpcodeForge$Labels" (30 : Nat) ({ cls := "java/lang/System", name := "arraycopy", desc := "(Ljava/lang/Object;ILjava/lang/Object;II)V" } : Jvm.MethodName)) ∈ lw_all := lw_g (lw_at lw_m4 171 rfl) rfl
theorem q1386 : (Jvm.Cond.instanceMethod ({ cls := "OpcodeForge$Labels", name := "copy", desc := "(LOpcodeForge$Labels;)V" } : Jvm.MethodName)) ∈ lw_all := lw_g (lw_at lw_m5 163 rfl) rfl
theorem q1387 : (Jvm.Cond.selects "OpcodeForge$Labels" ({ cls := "OpcodeForge$Labels", name := "copy", desc := "(LOpcodeForge$Labels;)V" } : Jvm.MethodName) ({ cls := "OpcodeForge$Labels", name := "copy", desc := "(LOpcodeForge$Labels;)V" } : Jvm.MethodName)) ∈ lw_all := lw_g (lw_at lw_m5 164 rfl) rfl
theorem q1388 : (Jvm.Cond.code ({ cls := "OpcodeForge$Labels", name := "copy", desc := "(LOpcodeForge$Labels;)V" } : Jvm.MethodName) prog_5_method_5_code (2 : Nat) (Option.none : Option Jvm.ClassFile.FieldType)) ∈ lw_all := lw_g (lw_at lw_m5 165 rfl) rfl
theorem in_X5 : ∀ w ∈ wsX50, w ∈ lw_all := lw_in wsX50 [591, 593, 595, 597] (by decide +kernel) (by decide +kernel)
def RX6 : String := "OpcodeForge$Writer"
def TX6 : u_T := fun k => match k with
  | 0 => ("OpcodeForge$Writer", "signs", "[B", true)
  | 1 => ("OpcodeForge$Writer", "size", "I", false)
  | 2 => ("OpcodeForge$Writer", "words", "LOpcodeForge$Words;", true)
  | _ => ("OpcodeForge$Writer", "forms", "LOpcodeForge$Forms;", true)
def tyX6 : Nat → FieldType := fun k => match k with
  | 0 => .array .byte
  | 1 => .int
  | 2 => .object "OpcodeForge$Words"
  | _ => .object "OpcodeForge$Forms"
abbrev wsX60 : List Cond := u_ws RX6 TX6 4
theorem nmX6 : ∀ a, a < 4 → ∀ b, b < 4 → a ≠ b → (TX6 a).2.1 ≠ (TX6 b).2.1 := by decide +kernel
theorem tyX6_ok : ∀ k, k < 4 → parseFieldDescriptor (TX6 k).2.2.1 = some (tyX6 k) := by decide +kernel
abbrev cX6_init : ByteArray := prog_10_method_1_code
def yX6_init : MethodName := ⟨RX6, "<init>", "(LOpcodeForge$Words;LOpcodeForge$Forms;)V"⟩
abbrev cX6_register : ByteArray := prog_10_method_6_code
def yX6_register : MethodName := ⟨RX6, "register", "(I)I"⟩
abbrev cX6_pair : ByteArray := prog_10_method_7_code
def yX6_pair : MethodName := ⟨RX6, "pair", "(I)I"⟩
abbrev cX6_condition : ByteArray := prog_10_method_8_code
def yX6_condition : MethodName := ⟨RX6, "condition", "(I)I"⟩
abbrev cX6_atName : ByteArray := prog_10_method_10_code
def yX6_atName : MethodName := ⟨RX6, "atName", "(I)I"⟩
abbrev cX6_write : ByteArray := prog_10_method_14_code
def yX6_write : MethodName := ⟨RX6, "write", "([BI)I"⟩
abbrev cX6_putText : ByteArray := prog_10_method_3_code
def yX6_putText : MethodName := ⟨RX6, "putText", "(Ljava/lang/String;)V"⟩
abbrev cX6_put : ByteArray := prog_10_method_2_code
def yX6_put : MethodName := ⟨RX6, "put", "(I)V"⟩
abbrev cX6_octet : ByteArray := prog_10_method_13_code
def yX6_octet : MethodName := ⟨RX6, "octet", "([BI)I"⟩
abbrev cX6_putNumber : ByteArray := prog_10_method_5_code
def yX6_putNumber : MethodName := ⟨RX6, "putNumber", "(I)V"⟩
abbrev cX6_putName : ByteArray := prog_10_method_4_code
def yX6_putName : MethodName := ⟨RX6, "putName", "(I)V"⟩
abbrev cX6_operand : ByteArray := prog_10_method_12_code
def yX6_operand : MethodName := ⟨RX6, "operand", "(IIII)V"⟩
abbrev cX6_within : ByteArray := prog_10_method_9_code
def yX6_within : MethodName := ⟨RX6, "within", "(I)V"⟩
abbrev cX6_putIndex : ByteArray := prog_10_method_11_code
def yX6_putIndex : MethodName := ⟨RX6, "putIndex", "(II)V"⟩
theorem q270 : (Jvm.Cond.initialized "OpcodeForge$Writer") ∈ lw_all := lw_g (lw_at lw_m1 7 rfl) rfl
theorem q400 : (Jvm.Cond.fieldLinkNest "OpcodeForge$Writer" (41 : Nat) "OpcodeForge$Words" "names" "[Ljava/lang/String;" "OpcodeForge") ∈ lw_tbl := lw_at lw_m1 137 rfl
theorem q480 : (Jvm.Cond.fieldLinkNest "OpcodeForge$Writer" (109 : Nat) "OpcodeForge$Forms" "words" "[I" "OpcodeForge") ∈ lw_tbl := lw_at lw_m1 217 rfl
theorem q483 : (Jvm.Cond.fieldLinkNest "OpcodeForge$Writer" (100 : Nat) "OpcodeForge$Forms" "kindA" "[I" "OpcodeForge") ∈ lw_tbl := lw_at lw_m1 220 rfl
theorem q486 : (Jvm.Cond.fieldLinkNest "OpcodeForge$Writer" (111 : Nat) "OpcodeForge$Forms" "valueA" "[I" "OpcodeForge") ∈ lw_tbl := lw_at lw_m1 223 rfl
theorem q489 : (Jvm.Cond.fieldLinkNest "OpcodeForge$Writer" (103 : Nat) "OpcodeForge$Forms" "kindB" "[I" "OpcodeForge") ∈ lw_tbl := lw_at lw_m1 226 rfl
theorem q492 : (Jvm.Cond.fieldLinkNest "OpcodeForge$Writer" (118 : Nat) "OpcodeForge$Forms" "valueB" "[I" "OpcodeForge") ∈ lw_tbl := lw_at lw_m1 229 rfl
theorem q495 : (Jvm.Cond.fieldLinkNest "OpcodeForge$Writer" (96 : Nat) "OpcodeForge$Forms" "prefixes" "[I" "OpcodeForge") ∈ lw_tbl := lw_at lw_m1 232 rfl
theorem q701 : (Jvm.Cond.instantiable "OpcodeForge$Writer" (4 : Nat)) ∈ lw_all := lw_g (lw_at lw_m2 198 rfl) rfl
theorem q703 : (Jvm.Cond.instanceMethod ({ cls := "OpcodeForge$Writer", name := "<init>", desc := "(LOpcodeForge$Words;LOpcodeForge$Forms;)V" } : Jvm.MethodName)) ∈ lw_all := lw_g (lw_at lw_m2 200 rfl) rfl
theorem q704 : (Jvm.Cond.code ({ cls := "OpcodeForge$Writer", name := "<init>", desc := "(LOpcodeForge$Words;LOpcodeForge$Forms;)V" } : Jvm.MethodName) prog_10_method_1_code (3 : Nat) (Option.none : Option Jvm.ClassFile.FieldType)) ∈ lw_all := lw_g (lw_at lw_m2 201 rfl) rfl
theorem q705 : (Jvm.Cond.methodLink "OpcodeForge$Writer" (3 : Nat) ({ cls := "java/lang/Object", name := "<init>", desc := "()V" } : Jvm.MethodName)) ∈ lw_all := lw_g (lw_at lw_m2 202 rfl) rfl
theorem q706 : (Jvm.Cond.fieldLink "OpcodeForge$Writer" (9 : Nat) "OpcodeForge$Writer" "signs" "[B") ∈ lw_all := lw_g (lw_at lw_m2 203 rfl) rfl
theorem q708 : (Jvm.Cond.fieldLink "OpcodeForge$Writer" (23 : Nat) "OpcodeForge$Writer" "size" "I") ∈ lw_all := lw_g (lw_at lw_m2 205 rfl) rfl
theorem q710 : (Jvm.Cond.fieldLink "OpcodeForge$Writer" (15 : Nat) "OpcodeForge$Writer" "words" "LOpcodeForge$Words;") ∈ lw_all := lw_g (lw_at lw_m2 207 rfl) rfl
theorem q711 : (Jvm.Cond.fieldLink "OpcodeForge$Writer" (19 : Nat) "OpcodeForge$Writer" "forms" "LOpcodeForge$Forms;") ∈ lw_all := lw_g (lw_at lw_m2 208 rfl) rfl
theorem q712 : (Jvm.Cond.laysFinal "OpcodeForge$Writer" "OpcodeForge$Writer" "signs" "[B") ∈ lw_all := lw_g (lw_at lw_m2 209 rfl) rfl
theorem q713 : (Jvm.Cond.soleField "OpcodeForge$Writer" "signs") ∈ lw_all := lw_g (lw_at lw_m2 210 rfl) rfl
theorem q714 : (Jvm.Cond.lays "OpcodeForge$Writer" "OpcodeForge$Writer" "size" "I") ∈ lw_all := lw_g (lw_at lw_m2 211 rfl) rfl
theorem q715 : (Jvm.Cond.soleField "OpcodeForge$Writer" "size") ∈ lw_all := lw_g (lw_at lw_m2 212 rfl) rfl
theorem q716 : (Jvm.Cond.laysFinal "OpcodeForge$Writer" "OpcodeForge$Writer" "words" "LOpcodeForge$Words;") ∈ lw_all := lw_g (lw_at lw_m2 213 rfl) rfl
theorem q717 : (Jvm.Cond.soleField "OpcodeForge$Writer" "words") ∈ lw_all := lw_g (lw_at lw_m2 214 rfl) rfl
theorem q718 : (Jvm.Cond.laysFinal "OpcodeForge$Writer" "OpcodeForge$Writer" "forms" "LOpcodeForge$Forms;") ∈ lw_all := lw_g (lw_at lw_m2 215 rfl) rfl
theorem q719 : (Jvm.Cond.soleField "OpcodeForge$Writer" "forms") ∈ lw_all := lw_g (lw_at lw_m2 216 rfl) rfl
theorem q720 : (Jvm.Cond.superclass "OpcodeForge$Writer" "java/lang/Object") ∈ lw_all := lw_g (lw_at lw_m2 217 rfl) rfl
theorem q1300 : (Jvm.Cond.static ({ cls := "OpcodeForge$Writer", name := "register", desc := "(I)I" } : Jvm.MethodName)) ∈ lw_all := lw_g (lw_at lw_m5 77 rfl) rfl
theorem q1301 : (Jvm.Cond.code ({ cls := "OpcodeForge$Writer", name := "register", desc := "(I)I" } : Jvm.MethodName) prog_10_method_6_code (1 : Nat) (Option.some Jvm.ClassFile.FieldType.int)) ∈ lw_all := lw_g (lw_at lw_m5 78 rfl) rfl
theorem q1303 : (Jvm.Cond.static ({ cls := "OpcodeForge$Writer", name := "pair", desc := "(I)I" } : Jvm.MethodName)) ∈ lw_all := lw_g (lw_at lw_m5 80 rfl) rfl
theorem q1304 : (Jvm.Cond.code ({ cls := "OpcodeForge$Writer", name := "pair", desc := "(I)I" } : Jvm.MethodName) prog_10_method_7_code (1 : Nat) (Option.some Jvm.ClassFile.FieldType.int)) ∈ lw_all := lw_g (lw_at lw_m5 81 rfl) rfl
theorem q1306 : (Jvm.Cond.static ({ cls := "OpcodeForge$Writer", name := "condition", desc := "(I)I" } : Jvm.MethodName)) ∈ lw_all := lw_g (lw_at lw_m5 83 rfl) rfl
theorem q1307 : (Jvm.Cond.code ({ cls := "OpcodeForge$Writer", name := "condition", desc := "(I)I" } : Jvm.MethodName) prog_10_method_8_code (1 : Nat) (Option.some Jvm.ClassFile.FieldType.int)) ∈ lw_all := lw_g (lw_at lw_m5 84 rfl) rfl
theorem q1309 : (Jvm.Cond.static ({ cls := "OpcodeForge$Writer", name := "atName", desc := "(I)I" } : Jvm.MethodName)) ∈ lw_all := lw_g (lw_at lw_m5 86 rfl) rfl
theorem q1310 : (Jvm.Cond.code ({ cls := "OpcodeForge$Writer", name := "atName", desc := "(I)I" } : Jvm.MethodName) prog_10_method_10_code (1 : Nat) (Option.some Jvm.ClassFile.FieldType.int)) ∈ lw_all := lw_g (lw_at lw_m5 87 rfl) rfl
theorem q1409 : (Jvm.Cond.instanceMethod ({ cls := "OpcodeForge$Writer", name := "write", desc := "([BI)I" } : Jvm.MethodName)) ∈ lw_all := lw_g (lw_at lw_m5 186 rfl) rfl
theorem q1410 : (Jvm.Cond.selects "OpcodeForge$Writer" ({ cls := "OpcodeForge$Writer", name := "write", desc := "([BI)I" } : Jvm.MethodName) ({ cls := "OpcodeForge$Writer", name := "write", desc := "([BI)I" } : Jvm.MethodName)) ∈ lw_all := lw_g (lw_at lw_m5 187 rfl) rfl
theorem q1411 : (Jvm.Cond.code ({ cls := "OpcodeForge$Writer", name := "write", desc := "([BI)I" } : Jvm.MethodName) prog_10_method_14_code (12 : Nat) (Option.some Jvm.ClassFile.FieldType.int)) ∈ lw_all := lw_g (lw_at lw_m5 188 rfl) rfl
theorem q1412 : (Jvm.Cond.methodLink "OpcodeForge$Writer" (83 : Nat) ({ cls := "OpcodeForge$Forms", name := "at", desc := "([BI)I" } : Jvm.MethodName)) ∈ lw_all := lw_g (lw_at lw_m5 189 rfl) rfl
theorem q1417 : (Jvm.Cond.stringRef "OpcodeForge$Writer" (89 : Nat) "DB ") ∈ lw_tbl := lw_at lw_m5 194 rfl
theorem q1418 : (Jvm.Cond.methodLink "OpcodeForge$Writer" (47 : Nat) ({ cls := "OpcodeForge$Writer", name := "putText", desc := "(Ljava/lang/String;)V" } : Jvm.MethodName)) ∈ lw_all := lw_g (lw_at lw_m5 195 rfl) rfl
theorem q1419 : (Jvm.Cond.privateMethod ({ cls := "OpcodeForge$Writer", name := "putText", desc := "(Ljava/lang/String;)V" } : Jvm.MethodName)) ∈ lw_tbl := lw_at lw_m5 196 rfl
theorem q1420 : (Jvm.Cond.instanceMethod ({ cls := "OpcodeForge$Writer", name := "putText", desc := "(Ljava/lang/String;)V" } : Jvm.MethodName)) ∈ lw_all := lw_g (lw_at lw_m5 197 rfl) rfl
theorem q1421 : (Jvm.Cond.code ({ cls := "OpcodeForge$Writer", name := "putText", desc := "(Ljava/lang/String;)V" } : Jvm.MethodName) prog_10_method_3_code (3 : Nat) (Option.none : Option Jvm.ClassFile.FieldType)) ∈ lw_all := lw_g (lw_at lw_m5 198 rfl) rfl
theorem q1422 : (Jvm.Cond.methodLink "OpcodeForge$Writer" (27 : Nat) ({ cls := "java/lang/String", name := "length", desc := "()I" } : Jvm.MethodName)) ∈ lw_all := lw_g (lw_at lw_m5 199 rfl) rfl
theorem q1423 : (Jvm.Cond.methodLink "OpcodeForge$Writer" (33 : Nat) ({ cls := "java/lang/String", name := "charAt", desc := "(I)C" } : Jvm.MethodName)) ∈ lw_all := lw_g (lw_at lw_m5 200 rfl) rfl
theorem q1424 : (Jvm.Cond.methodLink "OpcodeForge$Writer" (37 : Nat) ({ cls := "OpcodeForge$Writer", name := "put", desc := "(I)V" } : Jvm.MethodName)) ∈ lw_all := lw_g (lw_at lw_m5 201 rfl) rfl
theorem q1425 : (Jvm.Cond.privateMethod ({ cls := "OpcodeForge$Writer", name := "put", desc := "(I)V" } : Jvm.MethodName)) ∈ lw_tbl := lw_at lw_m5 202 rfl
theorem q1426 : (Jvm.Cond.instanceMethod ({ cls := "OpcodeForge$Writer", name := "put", desc := "(I)V" } : Jvm.MethodName)) ∈ lw_all := lw_g (lw_at lw_m5 203 rfl) rfl
theorem q1427 : (Jvm.Cond.code ({ cls := "OpcodeForge$Writer", name := "put", desc := "(I)V" } : Jvm.MethodName) prog_10_method_2_code (2 : Nat) (Option.none : Option Jvm.ClassFile.FieldType)) ∈ lw_all := lw_g (lw_at lw_m5 204 rfl) rfl
theorem q1428 : (Jvm.Cond.methodLink "OpcodeForge$Writer" (91 : Nat) ({ cls := "OpcodeForge$Writer", name := "octet", desc := "([BI)I" } : Jvm.MethodName)) ∈ lw_all := lw_g (lw_at lw_m5 205 rfl) rfl
theorem q1429 : (Jvm.Cond.static ({ cls := "OpcodeForge$Writer", name := "octet", desc := "([BI)I" } : Jvm.MethodName)) ∈ lw_all := lw_g (lw_at lw_m5 206 rfl) rfl
theorem q1430 : (Jvm.Cond.code ({ cls := "OpcodeForge$Writer", name := "octet", desc := "([BI)I" } : Jvm.MethodName) prog_10_method_13_code (2 : Nat) (Option.some Jvm.ClassFile.FieldType.int)) ∈ lw_all := lw_g (lw_at lw_m5 207 rfl) rfl
theorem q1431 : (Jvm.Cond.constant "OpcodeForge$Writer" (82 : Nat) (65535 : Int32)) ∈ lw_all := lw_g (lw_at lw_m5 208 rfl) rfl
theorem q1432 : (Jvm.Cond.methodLink "OpcodeForge$Writer" (60 : Nat) ({ cls := "OpcodeForge$Writer", name := "putNumber", desc := "(I)V" } : Jvm.MethodName)) ∈ lw_all := lw_g (lw_at lw_m5 209 rfl) rfl
theorem q1433 : (Jvm.Cond.privateMethod ({ cls := "OpcodeForge$Writer", name := "putNumber", desc := "(I)V" } : Jvm.MethodName)) ∈ lw_tbl := lw_at lw_m5 210 rfl
theorem q1434 : (Jvm.Cond.instanceMethod ({ cls := "OpcodeForge$Writer", name := "putNumber", desc := "(I)V" } : Jvm.MethodName)) ∈ lw_all := lw_g (lw_at lw_m5 211 rfl) rfl
theorem q1435 : (Jvm.Cond.code ({ cls := "OpcodeForge$Writer", name := "putNumber", desc := "(I)V" } : Jvm.MethodName) prog_10_method_5_code (3 : Nat) (Option.none : Option Jvm.ClassFile.FieldType)) ∈ lw_all := lw_g (lw_at lw_m5 212 rfl) rfl
theorem q1436 : (Jvm.Cond.methodLink "OpcodeForge$Writer" (94 : Nat) ({ cls := "OpcodeForge$Forms", name := "size", desc := "(I)I" } : Jvm.MethodName)) ∈ lw_all := lw_g (lw_at lw_m5 213 rfl) rfl
theorem q1437 : (Jvm.Cond.methodLinkNest "OpcodeForge$Writer" (106 : Nat) ({ cls := "OpcodeForge$Forms", name := "behind", desc := "(I)I" } : Jvm.MethodName) "OpcodeForge") ∈ lw_tbl := lw_at lw_m5 214 rfl
theorem q1438 : (Jvm.Cond.methodLink "OpcodeForge$Writer" (51 : Nat) ({ cls := "OpcodeForge$Writer", name := "putName", desc := "(I)V" } : Jvm.MethodName)) ∈ lw_all := lw_g (lw_at lw_m5 215 rfl) rfl
theorem q1439 : (Jvm.Cond.privateMethod ({ cls := "OpcodeForge$Writer", name := "putName", desc := "(I)V" } : Jvm.MethodName)) ∈ lw_tbl := lw_at lw_m5 216 rfl
theorem q1440 : (Jvm.Cond.instanceMethod ({ cls := "OpcodeForge$Writer", name := "putName", desc := "(I)V" } : Jvm.MethodName)) ∈ lw_all := lw_g (lw_at lw_m5 217 rfl) rfl
theorem q1441 : (Jvm.Cond.code ({ cls := "OpcodeForge$Writer", name := "putName", desc := "(I)V" } : Jvm.MethodName) prog_10_method_4_code (2 : Nat) (Option.none : Option Jvm.ClassFile.FieldType)) ∈ lw_all := lw_g (lw_at lw_m5 218 rfl) rfl
theorem q1442 : (Jvm.Cond.methodLink "OpcodeForge$Writer" (114 : Nat) ({ cls := "OpcodeForge$Writer", name := "operand", desc := "(IIII)V" } : Jvm.MethodName)) ∈ lw_all := lw_g (lw_at lw_m5 219 rfl) rfl
theorem q1443 : (Jvm.Cond.privateMethod ({ cls := "OpcodeForge$Writer", name := "operand", desc := "(IIII)V" } : Jvm.MethodName)) ∈ lw_tbl := lw_at lw_m5 220 rfl
theorem q1444 : (Jvm.Cond.instanceMethod ({ cls := "OpcodeForge$Writer", name := "operand", desc := "(IIII)V" } : Jvm.MethodName)) ∈ lw_all := lw_g (lw_at lw_m5 221 rfl) rfl
theorem q1445 : (Jvm.Cond.code ({ cls := "OpcodeForge$Writer", name := "operand", desc := "(IIII)V" } : Jvm.MethodName) prog_10_method_12_code (5 : Nat) (Option.none : Option Jvm.ClassFile.FieldType)) ∈ lw_all := lw_g (lw_at lw_m5 222 rfl) rfl
theorem q1446 : (Jvm.Cond.methodLink "OpcodeForge$Writer" (63 : Nat) ({ cls := "OpcodeForge$Writer", name := "within", desc := "(I)V" } : Jvm.MethodName)) ∈ lw_all := lw_g (lw_at lw_m5 223 rfl) rfl
theorem q1447 : (Jvm.Cond.privateMethod ({ cls := "OpcodeForge$Writer", name := "within", desc := "(I)V" } : Jvm.MethodName)) ∈ lw_tbl := lw_at lw_m5 224 rfl
theorem q1448 : (Jvm.Cond.instanceMethod ({ cls := "OpcodeForge$Writer", name := "within", desc := "(I)V" } : Jvm.MethodName)) ∈ lw_all := lw_g (lw_at lw_m5 225 rfl) rfl
theorem q1449 : (Jvm.Cond.code ({ cls := "OpcodeForge$Writer", name := "within", desc := "(I)V" } : Jvm.MethodName) prog_10_method_9_code (2 : Nat) (Option.none : Option Jvm.ClassFile.FieldType)) ∈ lw_all := lw_g (lw_at lw_m5 226 rfl) rfl
theorem q1450 : (Jvm.Cond.methodLink "OpcodeForge$Writer" (66 : Nat) ({ cls := "OpcodeForge$Writer", name := "register", desc := "(I)I" } : Jvm.MethodName)) ∈ lw_all := lw_g (lw_at lw_m5 227 rfl) rfl
theorem q1451 : (Jvm.Cond.methodLink "OpcodeForge$Writer" (69 : Nat) ({ cls := "OpcodeForge$Writer", name := "pair", desc := "(I)I" } : Jvm.MethodName)) ∈ lw_all := lw_g (lw_at lw_m5 228 rfl) rfl
theorem q1452 : (Jvm.Cond.methodLink "OpcodeForge$Writer" (72 : Nat) ({ cls := "OpcodeForge$Writer", name := "condition", desc := "(I)I" } : Jvm.MethodName)) ∈ lw_all := lw_g (lw_at lw_m5 229 rfl) rfl
theorem q1453 : (Jvm.Cond.methodLink "OpcodeForge$Writer" (75 : Nat) ({ cls := "OpcodeForge$Writer", name := "atName", desc := "(I)I" } : Jvm.MethodName)) ∈ lw_all := lw_g (lw_at lw_m5 230 rfl) rfl
theorem q1454 : (Jvm.Cond.methodLink "OpcodeForge$Writer" (78 : Nat) ({ cls := "OpcodeForge$Writer", name := "putIndex", desc := "(II)V" } : Jvm.MethodName)) ∈ lw_all := lw_g (lw_at lw_m5 231 rfl) rfl
theorem q1455 : (Jvm.Cond.privateMethod ({ cls := "OpcodeForge$Writer", name := "putIndex", desc := "(II)V" } : Jvm.MethodName)) ∈ lw_tbl := lw_at lw_m5 232 rfl
theorem q1456 : (Jvm.Cond.instanceMethod ({ cls := "OpcodeForge$Writer", name := "putIndex", desc := "(II)V" } : Jvm.MethodName)) ∈ lw_all := lw_g (lw_at lw_m5 233 rfl) rfl
theorem q1457 : (Jvm.Cond.code ({ cls := "OpcodeForge$Writer", name := "putIndex", desc := "(II)V" } : Jvm.MethodName) prog_10_method_11_code (3 : Nat) (Option.none : Option Jvm.ClassFile.FieldType)) ∈ lw_all := lw_g (lw_at lw_m5 234 rfl) rfl
theorem q1458 : (Jvm.Cond.methodLink "OpcodeForge$Writer" (54 : Nat) ({ cls := "java/lang/Math", name := "abs", desc := "(I)I" } : Jvm.MethodName)) ∈ lw_all := lw_g (lw_at lw_m5 235 rfl) rfl
theorem in_X6 : ∀ w ∈ wsX60, w ∈ lw_all := lw_in wsX60 [712, 714, 716, 718] (by decide +kernel) (by decide +kernel)
def RX7 : String := "OpcodeForge$Machine"
def TX7 : u_T := fun k => match k with
  | 0 => ("OpcodeForge$Machine", "forms", "LOpcodeForge$Forms;", true)
  | 1 => ("OpcodeForge$Machine", "memory", "[B", true)
  | 2 => ("OpcodeForge$Machine", "\x72", "[I", true)
  | 3 => ("OpcodeForge$Machine", "other", "[I", true)
  | 4 => ("OpcodeForge$Machine", "index", "[I", true)
  | 5 => ("OpcodeForge$Machine", "sp", "I", false)
  | 6 => ("OpcodeForge$Machine", "pc", "I", false)
  | 7 => ("OpcodeForge$Machine", "i", "I", false)
  | 8 => ("OpcodeForge$Machine", "refresh", "I", false)
  | 9 => ("OpcodeForge$Machine", "latch", "I", false)
  | 10 => ("OpcodeForge$Machine", "latch2", "I", false)
  | 11 => ("OpcodeForge$Machine", "mode", "I", false)
  | 12 => ("OpcodeForge$Machine", "ins", "[I", true)
  | 13 => ("OpcodeForge$Machine", "outs", "[I", true)
  | 14 => ("OpcodeForge$Machine", "outCount", "J", false)
  | 15 => ("OpcodeForge$Machine", "isPlain", "Z", false)
  | 16 => ("OpcodeForge$Machine", "vector", "I", false)
  | 17 => ("OpcodeForge$Machine", "isHard", "Z", false)
  | _ => ("OpcodeForge$Machine", "isHeld", "Z", false)
def tyX7 : Nat → FieldType := fun k => match k with
  | 0 => .object "OpcodeForge$Forms"
  | 1 => .array .byte
  | 2 => .array .int
  | 3 => .array .int
  | 4 => .array .int
  | 5 => .int
  | 6 => .int
  | 7 => .int
  | 8 => .int
  | 9 => .int
  | 10 => .int
  | 11 => .int
  | 12 => .array .int
  | 13 => .array .int
  | 14 => .long
  | 15 => .boolean
  | 16 => .int
  | 17 => .boolean
  | _ => .boolean
abbrev wsX70 : List Cond := u_ws RX7 TX7 19
theorem nmX7 : ∀ a, a < 19 → ∀ b, b < 19 → a ≠ b → (TX7 a).2.1 ≠ (TX7 b).2.1 := by decide +kernel
theorem tyX7_ok : ∀ k, k < 19 → parseFieldDescriptor (TX7 k).2.2.1 = some (tyX7 k) := by decide +kernel
abbrev cX7_init : ByteArray := prog_6_method_1_code
def yX7_init : MethodName := ⟨RX7, "<init>", "(LOpcodeForge$Forms;)V"⟩
abbrev cX7_get : ByteArray := prog_6_method_3_code
def yX7_get : MethodName := ⟨RX7, "get", "(I)I"⟩
abbrev cX7_put : ByteArray := prog_6_method_4_code
def yX7_put : MethodName := ⟨RX7, "put", "(II)V"⟩
abbrev cX7_pair : ByteArray := prog_6_method_10_code
def yX7_pair : MethodName := ⟨RX7, "pair", "(I)I"⟩
abbrev cX7_setPair : ByteArray := prog_6_method_11_code
def yX7_setPair : MethodName := ⟨RX7, "setPair", "(II)V"⟩
abbrev cX7_step : ByteArray := prog_6_method_56_code
def yX7_step : MethodName := ⟨RX7, "step", "()I"⟩
abbrev cX7_hasTaken : ByteArray := prog_6_method_55_code
def yX7_hasTaken : MethodName := ⟨RX7, "hasTaken", "()Z"⟩
abbrev cX7_refreshBy : ByteArray := prog_6_method_53_code
def yX7_refreshBy : MethodName := ⟨RX7, "refreshBy", "(I)V"⟩
abbrev cX7_push : ByteArray := prog_6_method_7_code
def yX7_push : MethodName := ⟨RX7, "push", "(I)V"⟩
abbrev cX7_put16 : ByteArray := prog_6_method_6_code
def yX7_put16 : MethodName := ⟨RX7, "put16", "(II)V"⟩
abbrev cX7_get16 : ByteArray := prog_6_method_5_code
def yX7_get16 : MethodName := ⟨RX7, "get16", "(I)I"⟩
abbrev cX7_instruction : ByteArray := prog_6_method_54_code
def yX7_instruction : MethodName := ⟨RX7, "instruction", "()I"⟩
abbrev cX7_hl : ByteArray := prog_6_method_9_code
def yX7_hl : MethodName := ⟨RX7, "hl", "()I"⟩
abbrev cX7_plain : ByteArray := prog_6_method_35_code
def yX7_plain : MethodName := ⟨RX7, "plain", "(IIIII)I"⟩
abbrev cX7_low : ByteArray := prog_6_method_37_code
def yX7_low : MethodName := ⟨RX7, "low", "(IIIIII)V"⟩
abbrev cX7_named : ByteArray := prog_6_method_36_code
def yX7_named : MethodName := ⟨RX7, "named", "(II)I"⟩
abbrev cX7_relative : ByteArray := prog_6_method_38_code
def yX7_relative : MethodName := ⟨RX7, "relative", "(II)V"⟩
abbrev cX7_swap : ByteArray := prog_6_method_32_code
def yX7_swap : MethodName := ⟨RX7, "swap", "(II)V"⟩
abbrev cX7_jumpBy : ByteArray := prog_6_method_31_code
def yX7_jumpBy : MethodName := ⟨RX7, "jumpBy", "(ZI)V"⟩
abbrev cX7_holds : ByteArray := prog_6_method_15_code
def yX7_holds : MethodName := ⟨RX7, "holds", "(I)Z"⟩
abbrev cX7_is : ByteArray := prog_6_method_14_code
def yX7_is : MethodName := ⟨RX7, "is", "(I)Z"⟩
abbrev cX7_sum16 : ByteArray := prog_6_method_21_code
def yX7_sum16 : MethodName := ⟨RX7, "sum16", "(II)I"⟩
abbrev cX7_loads : ByteArray := prog_6_method_39_code
def yX7_loads : MethodName := ⟨RX7, "loads", "(III)V"⟩
abbrev cX7_octet : ByteArray := prog_6_method_28_code
def yX7_octet : MethodName := ⟨RX7, "octet", "(II)I"⟩
abbrev cX7_stepped : ByteArray := prog_6_method_20_code
def yX7_stepped : MethodName := ⟨RX7, "stepped", "(IZ)I"⟩
abbrev cX7_added : ByteArray := prog_6_method_16_code
def yX7_added : MethodName := ⟨RX7, "added", "(III)I"⟩
abbrev cX7_shown : ByteArray := prog_6_method_12_code
def yX7_shown : MethodName := ⟨RX7, "shown", "(I)I"⟩
abbrev cX7_taken : ByteArray := prog_6_method_17_code
def yX7_taken : MethodName := ⟨RX7, "taken", "(III)I"⟩
abbrev cX7_setOctet : ByteArray := prog_6_method_29_code
def yX7_setOctet : MethodName := ⟨RX7, "setOctet", "(III)V"⟩
abbrev cX7_single : ByteArray := prog_6_method_27_code
def yX7_single : MethodName := ⟨RX7, "single", "(I)V"⟩
abbrev cX7_adjust : ByteArray := prog_6_method_26_code
def yX7_adjust : MethodName := ⟨RX7, "adjust", "()V"⟩
abbrev cX7_parity : ByteArray := prog_6_method_13_code
def yX7_parity : MethodName := ⟨RX7, "parity", "(I)I"⟩
abbrev cX7_accumulator : ByteArray := prog_6_method_24_code
def yX7_accumulator : MethodName := ⟨RX7, "accumulator", "(I)V"⟩
abbrev cX7_moved : ByteArray := prog_6_method_23_code
def yX7_moved : MethodName := ⟨RX7, "moved", "(II)I"⟩
abbrev cX7_arithmetic : ByteArray := prog_6_method_18_code
def yX7_arithmetic : MethodName := ⟨RX7, "arithmetic", "(II)V"⟩
abbrev cX7_logic : ByteArray := prog_6_method_19_code
def yX7_logic : MethodName := ⟨RX7, "logic", "(II)V"⟩
abbrev cX7_high : ByteArray := prog_6_method_40_code
def yX7_high : MethodName := ⟨RX7, "high", "(IIII)V"⟩
abbrev cX7_pop : ByteArray := prog_6_method_8_code
def yX7_pop : MethodName := ⟨RX7, "pop", "()I"⟩
abbrev cX7_others : ByteArray := prog_6_method_42_code
def yX7_others : MethodName := ⟨RX7, "others", "(III)V"⟩
abbrev cX7_out : ByteArray := prog_6_method_34_code
def yX7_out : MethodName := ⟨RX7, "out", "(II)V"⟩
abbrev cX7_in : ByteArray := prog_6_method_33_code
def yX7_in : MethodName := ⟨RX7, "in", "(I)I"⟩
abbrev cX7_call : ByteArray := prog_6_method_41_code
def yX7_call : MethodName := ⟨RX7, "call", "(ZI)V"⟩
abbrev cX7_bits : ByteArray := prog_6_method_43_code
def yX7_bits : MethodName := ⟨RX7, "bits", "(II)V"⟩
abbrev cX7_rotated : ByteArray := prog_6_method_25_code
def yX7_rotated : MethodName := ⟨RX7, "rotated", "(II)I"⟩
abbrev cX7_extra : ByteArray := prog_6_method_44_code
def yX7_extra : MethodName := ⟨RX7, "extra", "(II)V"⟩
abbrev cX7_block : ByteArray := prog_6_method_47_code
def yX7_block : MethodName := ⟨RX7, "block", "(III)V"⟩
abbrev cX7_copy : ByteArray := prog_6_method_48_code
def yX7_copy : MethodName := ⟨RX7, "copy", "(I)V"⟩
abbrev cX7_search : ByteArray := prog_6_method_49_code
def yX7_search : MethodName := ⟨RX7, "search", "(I)V"⟩
abbrev cX7_inBlock : ByteArray := prog_6_method_51_code
def yX7_inBlock : MethodName := ⟨RX7, "inBlock", "(I)V"⟩
abbrev cX7_counted : ByteArray := prog_6_method_50_code
def yX7_counted : MethodName := ⟨RX7, "counted", "(II)V"⟩
abbrev cX7_outBlock : ByteArray := prog_6_method_52_code
def yX7_outBlock : MethodName := ⟨RX7, "outBlock", "(I)V"⟩
abbrev cX7_carried16 : ByteArray := prog_6_method_22_code
def yX7_carried16 : MethodName := ⟨RX7, "carried16", "(IZ)V"⟩
abbrev cX7_special : ByteArray := prog_6_method_45_code
def yX7_special : MethodName := ⟨RX7, "special", "(I)V"⟩
abbrev cX7_digit : ByteArray := prog_6_method_46_code
def yX7_digit : MethodName := ⟨RX7, "digit", "(I)V"⟩
abbrev cX7_clear : ByteArray := prog_6_method_2_code
def yX7_clear : MethodName := ⟨RX7, "clear", "()V"⟩
theorem q271 : (Jvm.Cond.initialized "OpcodeForge$Machine") ∈ lw_all := lw_g (lw_at lw_m1 8 rfl) rfl
theorem q497 : (Jvm.Cond.fieldLinkNest "OpcodeForge$Machine" (233 : Nat) "OpcodeForge$Forms" "prefixes" "[I" "OpcodeForge") ∈ lw_tbl := lw_at lw_m1 234 rfl
theorem q500 : (Jvm.Cond.fieldLinkNest "OpcodeForge$Machine" (236 : Nat) "OpcodeForge$Forms" "octets" "[I" "OpcodeForge") ∈ lw_tbl := lw_at lw_m1 237 rfl
theorem q722 : (Jvm.Cond.instantiable "OpcodeForge$Machine" (19 : Nat)) ∈ lw_all := lw_g (lw_at lw_m2 219 rfl) rfl
theorem q724 : (Jvm.Cond.instanceMethod ({ cls := "OpcodeForge$Machine", name := "<init>", desc := "(LOpcodeForge$Forms;)V" } : Jvm.MethodName)) ∈ lw_all := lw_g (lw_at lw_m2 221 rfl) rfl
theorem q725 : (Jvm.Cond.code ({ cls := "OpcodeForge$Machine", name := "<init>", desc := "(LOpcodeForge$Forms;)V" } : Jvm.MethodName) prog_6_method_1_code (2 : Nat) (Option.none : Option Jvm.ClassFile.FieldType)) ∈ lw_all := lw_g (lw_at lw_m2 222 rfl) rfl
theorem q726 : (Jvm.Cond.methodLink "OpcodeForge$Machine" (3 : Nat) ({ cls := "java/lang/Object", name := "<init>", desc := "()V" } : Jvm.MethodName)) ∈ lw_all := lw_g (lw_at lw_m2 223 rfl) rfl
theorem q727 : (Jvm.Cond.constant "OpcodeForge$Machine" (9 : Nat) (65536 : Int32)) ∈ lw_all := lw_g (lw_at lw_m2 224 rfl) rfl
theorem q728 : (Jvm.Cond.constant "OpcodeForge$Machine" (26 : Nat) (65535 : Int32)) ∈ lw_all := lw_g (lw_at lw_m2 225 rfl) rfl
theorem q729 : (Jvm.Cond.fieldLink "OpcodeForge$Machine" (37 : Nat) "OpcodeForge$Machine" "forms" "LOpcodeForge$Forms;") ∈ lw_all := lw_g (lw_at lw_m2 226 rfl) rfl
theorem q730 : (Jvm.Cond.fieldLink "OpcodeForge$Machine" (10 : Nat) "OpcodeForge$Machine" "memory" "[B") ∈ lw_all := lw_g (lw_at lw_m2 227 rfl) rfl
theorem q732 : (Jvm.Cond.fieldLink "OpcodeForge$Machine" (16 : Nat) "OpcodeForge$Machine" "\x72" "[I") ∈ lw_all := lw_g (lw_at lw_m2 229 rfl) rfl
theorem q733 : (Jvm.Cond.fieldLink "OpcodeForge$Machine" (20 : Nat) "OpcodeForge$Machine" "other" "[I") ∈ lw_all := lw_g (lw_at lw_m2 230 rfl) rfl
theorem q735 : (Jvm.Cond.fieldLink "OpcodeForge$Machine" (23 : Nat) "OpcodeForge$Machine" "index" "[I") ∈ lw_all := lw_g (lw_at lw_m2 232 rfl) rfl
theorem q737 : (Jvm.Cond.fieldLink "OpcodeForge$Machine" (27 : Nat) "OpcodeForge$Machine" "sp" "I") ∈ lw_all := lw_g (lw_at lw_m2 234 rfl) rfl
theorem q739 : (Jvm.Cond.fieldLink "OpcodeForge$Machine" (41 : Nat) "OpcodeForge$Machine" "pc" "I") ∈ lw_all := lw_g (lw_at lw_m2 236 rfl) rfl
theorem q741 : (Jvm.Cond.fieldLink "OpcodeForge$Machine" (44 : Nat) "OpcodeForge$Machine" "i" "I") ∈ lw_all := lw_g (lw_at lw_m2 238 rfl) rfl
theorem q743 : (Jvm.Cond.fieldLink "OpcodeForge$Machine" (47 : Nat) "OpcodeForge$Machine" "refresh" "I") ∈ lw_all := lw_g (lw_at lw_m3 0 rfl) rfl
theorem q745 : (Jvm.Cond.fieldLink "OpcodeForge$Machine" (50 : Nat) "OpcodeForge$Machine" "latch" "I") ∈ lw_all := lw_g (lw_at lw_m3 2 rfl) rfl
theorem q747 : (Jvm.Cond.fieldLink "OpcodeForge$Machine" (53 : Nat) "OpcodeForge$Machine" "latch2" "I") ∈ lw_all := lw_g (lw_at lw_m3 4 rfl) rfl
theorem q749 : (Jvm.Cond.fieldLink "OpcodeForge$Machine" (56 : Nat) "OpcodeForge$Machine" "mode" "I") ∈ lw_all := lw_g (lw_at lw_m3 6 rfl) rfl
theorem q751 : (Jvm.Cond.fieldLink "OpcodeForge$Machine" (31 : Nat) "OpcodeForge$Machine" "ins" "[I") ∈ lw_all := lw_g (lw_at lw_m3 8 rfl) rfl
theorem q753 : (Jvm.Cond.fieldLink "OpcodeForge$Machine" (34 : Nat) "OpcodeForge$Machine" "outs" "[I") ∈ lw_all := lw_g (lw_at lw_m3 10 rfl) rfl
theorem q755 : (Jvm.Cond.fieldLink "OpcodeForge$Machine" (59 : Nat) "OpcodeForge$Machine" "outCount" "J") ∈ lw_all := lw_g (lw_at lw_m3 12 rfl) rfl
theorem q757 : (Jvm.Cond.fieldLink "OpcodeForge$Machine" (63 : Nat) "OpcodeForge$Machine" "isPlain" "Z") ∈ lw_all := lw_g (lw_at lw_m3 14 rfl) rfl
theorem q759 : (Jvm.Cond.fieldLink "OpcodeForge$Machine" (73 : Nat) "OpcodeForge$Machine" "vector" "I") ∈ lw_all := lw_g (lw_at lw_m3 16 rfl) rfl
theorem q761 : (Jvm.Cond.fieldLink "OpcodeForge$Machine" (67 : Nat) "OpcodeForge$Machine" "isHard" "Z") ∈ lw_all := lw_g (lw_at lw_m3 18 rfl) rfl
theorem q763 : (Jvm.Cond.fieldLink "OpcodeForge$Machine" (70 : Nat) "OpcodeForge$Machine" "isHeld" "Z") ∈ lw_all := lw_g (lw_at lw_m3 20 rfl) rfl
theorem q764 : (Jvm.Cond.laysFinal "OpcodeForge$Machine" "OpcodeForge$Machine" "forms" "LOpcodeForge$Forms;") ∈ lw_all := lw_g (lw_at lw_m3 21 rfl) rfl
theorem q765 : (Jvm.Cond.soleField "OpcodeForge$Machine" "forms") ∈ lw_all := lw_g (lw_at lw_m3 22 rfl) rfl
theorem q766 : (Jvm.Cond.laysFinal "OpcodeForge$Machine" "OpcodeForge$Machine" "memory" "[B") ∈ lw_all := lw_g (lw_at lw_m3 23 rfl) rfl
theorem q767 : (Jvm.Cond.soleField "OpcodeForge$Machine" "memory") ∈ lw_all := lw_g (lw_at lw_m3 24 rfl) rfl
theorem q768 : (Jvm.Cond.laysFinal "OpcodeForge$Machine" "OpcodeForge$Machine" "\x72" "[I") ∈ lw_all := lw_g (lw_at lw_m3 25 rfl) rfl
theorem q769 : (Jvm.Cond.soleField "OpcodeForge$Machine" "\x72") ∈ lw_all := lw_g (lw_at lw_m3 26 rfl) rfl
theorem q770 : (Jvm.Cond.laysFinal "OpcodeForge$Machine" "OpcodeForge$Machine" "other" "[I") ∈ lw_all := lw_g (lw_at lw_m3 27 rfl) rfl
theorem q771 : (Jvm.Cond.soleField "OpcodeForge$Machine" "other") ∈ lw_all := lw_g (lw_at lw_m3 28 rfl) rfl
theorem q772 : (Jvm.Cond.laysFinal "OpcodeForge$Machine" "OpcodeForge$Machine" "index" "[I") ∈ lw_all := lw_g (lw_at lw_m3 29 rfl) rfl
theorem q773 : (Jvm.Cond.soleField "OpcodeForge$Machine" "index") ∈ lw_all := lw_g (lw_at lw_m3 30 rfl) rfl
theorem q774 : (Jvm.Cond.lays "OpcodeForge$Machine" "OpcodeForge$Machine" "sp" "I") ∈ lw_all := lw_g (lw_at lw_m3 31 rfl) rfl
theorem q775 : (Jvm.Cond.soleField "OpcodeForge$Machine" "sp") ∈ lw_all := lw_g (lw_at lw_m3 32 rfl) rfl
theorem q776 : (Jvm.Cond.lays "OpcodeForge$Machine" "OpcodeForge$Machine" "pc" "I") ∈ lw_all := lw_g (lw_at lw_m3 33 rfl) rfl
theorem q777 : (Jvm.Cond.soleField "OpcodeForge$Machine" "pc") ∈ lw_all := lw_g (lw_at lw_m3 34 rfl) rfl
theorem q778 : (Jvm.Cond.lays "OpcodeForge$Machine" "OpcodeForge$Machine" "i" "I") ∈ lw_all := lw_g (lw_at lw_m3 35 rfl) rfl
theorem q779 : (Jvm.Cond.soleField "OpcodeForge$Machine" "i") ∈ lw_all := lw_g (lw_at lw_m3 36 rfl) rfl
theorem q780 : (Jvm.Cond.lays "OpcodeForge$Machine" "OpcodeForge$Machine" "refresh" "I") ∈ lw_all := lw_g (lw_at lw_m3 37 rfl) rfl
theorem q781 : (Jvm.Cond.soleField "OpcodeForge$Machine" "refresh") ∈ lw_all := lw_g (lw_at lw_m3 38 rfl) rfl
theorem q782 : (Jvm.Cond.lays "OpcodeForge$Machine" "OpcodeForge$Machine" "latch" "I") ∈ lw_all := lw_g (lw_at lw_m3 39 rfl) rfl
theorem q783 : (Jvm.Cond.soleField "OpcodeForge$Machine" "latch") ∈ lw_all := lw_g (lw_at lw_m3 40 rfl) rfl
theorem q784 : (Jvm.Cond.lays "OpcodeForge$Machine" "OpcodeForge$Machine" "latch2" "I") ∈ lw_all := lw_g (lw_at lw_m3 41 rfl) rfl
theorem q785 : (Jvm.Cond.soleField "OpcodeForge$Machine" "latch2") ∈ lw_all := lw_g (lw_at lw_m3 42 rfl) rfl
theorem q786 : (Jvm.Cond.lays "OpcodeForge$Machine" "OpcodeForge$Machine" "mode" "I") ∈ lw_all := lw_g (lw_at lw_m3 43 rfl) rfl
theorem q787 : (Jvm.Cond.soleField "OpcodeForge$Machine" "mode") ∈ lw_all := lw_g (lw_at lw_m3 44 rfl) rfl
theorem q788 : (Jvm.Cond.laysFinal "OpcodeForge$Machine" "OpcodeForge$Machine" "ins" "[I") ∈ lw_all := lw_g (lw_at lw_m3 45 rfl) rfl
theorem q789 : (Jvm.Cond.soleField "OpcodeForge$Machine" "ins") ∈ lw_all := lw_g (lw_at lw_m3 46 rfl) rfl
theorem q790 : (Jvm.Cond.laysFinal "OpcodeForge$Machine" "OpcodeForge$Machine" "outs" "[I") ∈ lw_all := lw_g (lw_at lw_m3 47 rfl) rfl
theorem q791 : (Jvm.Cond.soleField "OpcodeForge$Machine" "outs") ∈ lw_all := lw_g (lw_at lw_m3 48 rfl) rfl
theorem q792 : (Jvm.Cond.lays "OpcodeForge$Machine" "OpcodeForge$Machine" "outCount" "J") ∈ lw_all := lw_g (lw_at lw_m3 49 rfl) rfl
theorem q793 : (Jvm.Cond.soleField "OpcodeForge$Machine" "outCount") ∈ lw_all := lw_g (lw_at lw_m3 50 rfl) rfl
theorem q794 : (Jvm.Cond.lays "OpcodeForge$Machine" "OpcodeForge$Machine" "isPlain" "Z") ∈ lw_all := lw_g (lw_at lw_m3 51 rfl) rfl
theorem q795 : (Jvm.Cond.soleField "OpcodeForge$Machine" "isPlain") ∈ lw_all := lw_g (lw_at lw_m3 52 rfl) rfl
theorem q796 : (Jvm.Cond.lays "OpcodeForge$Machine" "OpcodeForge$Machine" "vector" "I") ∈ lw_all := lw_g (lw_at lw_m3 53 rfl) rfl
theorem q797 : (Jvm.Cond.soleField "OpcodeForge$Machine" "vector") ∈ lw_all := lw_g (lw_at lw_m3 54 rfl) rfl
theorem q798 : (Jvm.Cond.lays "OpcodeForge$Machine" "OpcodeForge$Machine" "isHard" "Z") ∈ lw_all := lw_g (lw_at lw_m3 55 rfl) rfl
theorem q799 : (Jvm.Cond.soleField "OpcodeForge$Machine" "isHard") ∈ lw_all := lw_g (lw_at lw_m3 56 rfl) rfl
theorem q800 : (Jvm.Cond.lays "OpcodeForge$Machine" "OpcodeForge$Machine" "isHeld" "Z") ∈ lw_all := lw_g (lw_at lw_m3 57 rfl) rfl
theorem q801 : (Jvm.Cond.soleField "OpcodeForge$Machine" "isHeld") ∈ lw_all := lw_g (lw_at lw_m3 58 rfl) rfl
theorem q802 : (Jvm.Cond.superclass "OpcodeForge$Machine" "java/lang/Object") ∈ lw_all := lw_g (lw_at lw_m3 59 rfl) rfl
theorem q1487 : (Jvm.Cond.instanceMethod ({ cls := "OpcodeForge$Machine", name := "get", desc := "(I)I" } : Jvm.MethodName)) ∈ lw_all := lw_g (lw_at lw_m6 24 rfl) rfl
theorem q1488 : (Jvm.Cond.selects "OpcodeForge$Machine" ({ cls := "OpcodeForge$Machine", name := "get", desc := "(I)I" } : Jvm.MethodName) ({ cls := "OpcodeForge$Machine", name := "get", desc := "(I)I" } : Jvm.MethodName)) ∈ lw_all := lw_g (lw_at lw_m6 25 rfl) rfl
theorem q1489 : (Jvm.Cond.code ({ cls := "OpcodeForge$Machine", name := "get", desc := "(I)I" } : Jvm.MethodName) prog_6_method_3_code (2 : Nat) (Option.some Jvm.ClassFile.FieldType.int)) ∈ lw_all := lw_g (lw_at lw_m6 26 rfl) rfl
theorem q1496 : (Jvm.Cond.instanceMethod ({ cls := "OpcodeForge$Machine", name := "put", desc := "(II)V" } : Jvm.MethodName)) ∈ lw_all := lw_g (lw_at lw_m6 33 rfl) rfl
theorem q1497 : (Jvm.Cond.selects "OpcodeForge$Machine" ({ cls := "OpcodeForge$Machine", name := "put", desc := "(II)V" } : Jvm.MethodName) ({ cls := "OpcodeForge$Machine", name := "put", desc := "(II)V" } : Jvm.MethodName)) ∈ lw_all := lw_g (lw_at lw_m6 34 rfl) rfl
theorem q1498 : (Jvm.Cond.code ({ cls := "OpcodeForge$Machine", name := "put", desc := "(II)V" } : Jvm.MethodName) prog_6_method_4_code (3 : Nat) (Option.none : Option Jvm.ClassFile.FieldType)) ∈ lw_all := lw_g (lw_at lw_m6 35 rfl) rfl
theorem q1504 : (Jvm.Cond.instanceMethod ({ cls := "OpcodeForge$Machine", name := "pair", desc := "(I)I" } : Jvm.MethodName)) ∈ lw_all := lw_g (lw_at lw_m6 41 rfl) rfl
theorem q1505 : (Jvm.Cond.selects "OpcodeForge$Machine" ({ cls := "OpcodeForge$Machine", name := "pair", desc := "(I)I" } : Jvm.MethodName) ({ cls := "OpcodeForge$Machine", name := "pair", desc := "(I)I" } : Jvm.MethodName)) ∈ lw_all := lw_g (lw_at lw_m6 42 rfl) rfl
theorem q1506 : (Jvm.Cond.code ({ cls := "OpcodeForge$Machine", name := "pair", desc := "(I)I" } : Jvm.MethodName) prog_6_method_10_code (2 : Nat) (Option.some Jvm.ClassFile.FieldType.int)) ∈ lw_all := lw_g (lw_at lw_m6 43 rfl) rfl
theorem q1523 : (Jvm.Cond.instanceMethod ({ cls := "OpcodeForge$Machine", name := "setPair", desc := "(II)V" } : Jvm.MethodName)) ∈ lw_all := lw_g (lw_at lw_m6 60 rfl) rfl
theorem q1524 : (Jvm.Cond.selects "OpcodeForge$Machine" ({ cls := "OpcodeForge$Machine", name := "setPair", desc := "(II)V" } : Jvm.MethodName) ({ cls := "OpcodeForge$Machine", name := "setPair", desc := "(II)V" } : Jvm.MethodName)) ∈ lw_all := lw_g (lw_at lw_m6 61 rfl) rfl
theorem q1525 : (Jvm.Cond.code ({ cls := "OpcodeForge$Machine", name := "setPair", desc := "(II)V" } : Jvm.MethodName) prog_6_method_11_code (4 : Nat) (Option.none : Option Jvm.ClassFile.FieldType)) ∈ lw_all := lw_g (lw_at lw_m6 62 rfl) rfl
theorem q1547 : (Jvm.Cond.instanceMethod ({ cls := "OpcodeForge$Machine", name := "step", desc := "()I" } : Jvm.MethodName)) ∈ lw_all := lw_g (lw_at lw_m6 84 rfl) rfl
theorem q1548 : (Jvm.Cond.selects "OpcodeForge$Machine" ({ cls := "OpcodeForge$Machine", name := "step", desc := "()I" } : Jvm.MethodName) ({ cls := "OpcodeForge$Machine", name := "step", desc := "()I" } : Jvm.MethodName)) ∈ lw_all := lw_g (lw_at lw_m6 85 rfl) rfl
theorem q1549 : (Jvm.Cond.code ({ cls := "OpcodeForge$Machine", name := "step", desc := "()I" } : Jvm.MethodName) prog_6_method_56_code (1 : Nat) (Option.some Jvm.ClassFile.FieldType.int)) ∈ lw_all := lw_g (lw_at lw_m6 86 rfl) rfl
theorem q1550 : (Jvm.Cond.methodLink "OpcodeForge$Machine" (255 : Nat) ({ cls := "OpcodeForge$Machine", name := "hasTaken", desc := "()Z" } : Jvm.MethodName)) ∈ lw_all := lw_g (lw_at lw_m6 87 rfl) rfl
theorem q1551 : (Jvm.Cond.privateMethod ({ cls := "OpcodeForge$Machine", name := "hasTaken", desc := "()Z" } : Jvm.MethodName)) ∈ lw_tbl := lw_at lw_m6 88 rfl
theorem q1552 : (Jvm.Cond.instanceMethod ({ cls := "OpcodeForge$Machine", name := "hasTaken", desc := "()Z" } : Jvm.MethodName)) ∈ lw_all := lw_g (lw_at lw_m6 89 rfl) rfl
theorem q1553 : (Jvm.Cond.code ({ cls := "OpcodeForge$Machine", name := "hasTaken", desc := "()Z" } : Jvm.MethodName) prog_6_method_55_code (2 : Nat) (Option.some Jvm.ClassFile.FieldType.boolean)) ∈ lw_all := lw_g (lw_at lw_m6 90 rfl) rfl
theorem q1554 : (Jvm.Cond.methodLink "OpcodeForge$Machine" (76 : Nat) ({ cls := "OpcodeForge$Machine", name := "get", desc := "(I)I" } : Jvm.MethodName)) ∈ lw_all := lw_g (lw_at lw_m6 91 rfl) rfl
theorem q1555 : (Jvm.Cond.methodLink "OpcodeForge$Machine" (239 : Nat) ({ cls := "OpcodeForge$Machine", name := "refreshBy", desc := "(I)V" } : Jvm.MethodName)) ∈ lw_all := lw_g (lw_at lw_m6 92 rfl) rfl
theorem q1556 : (Jvm.Cond.privateMethod ({ cls := "OpcodeForge$Machine", name := "refreshBy", desc := "(I)V" } : Jvm.MethodName)) ∈ lw_tbl := lw_at lw_m6 93 rfl
theorem q1557 : (Jvm.Cond.instanceMethod ({ cls := "OpcodeForge$Machine", name := "refreshBy", desc := "(I)V" } : Jvm.MethodName)) ∈ lw_all := lw_g (lw_at lw_m6 94 rfl) rfl
theorem q1558 : (Jvm.Cond.code ({ cls := "OpcodeForge$Machine", name := "refreshBy", desc := "(I)V" } : Jvm.MethodName) prog_6_method_53_code (2 : Nat) (Option.none : Option Jvm.ClassFile.FieldType)) ∈ lw_all := lw_g (lw_at lw_m6 95 rfl) rfl
theorem q1559 : (Jvm.Cond.methodLink "OpcodeForge$Machine" (187 : Nat) ({ cls := "OpcodeForge$Machine", name := "push", desc := "(I)V" } : Jvm.MethodName)) ∈ lw_all := lw_g (lw_at lw_m6 96 rfl) rfl
theorem q1560 : (Jvm.Cond.privateMethod ({ cls := "OpcodeForge$Machine", name := "push", desc := "(I)V" } : Jvm.MethodName)) ∈ lw_tbl := lw_at lw_m6 97 rfl
theorem q1561 : (Jvm.Cond.instanceMethod ({ cls := "OpcodeForge$Machine", name := "push", desc := "(I)V" } : Jvm.MethodName)) ∈ lw_all := lw_g (lw_at lw_m6 98 rfl) rfl
theorem q1562 : (Jvm.Cond.code ({ cls := "OpcodeForge$Machine", name := "push", desc := "(I)V" } : Jvm.MethodName) prog_6_method_7_code (2 : Nat) (Option.none : Option Jvm.ClassFile.FieldType)) ∈ lw_all := lw_g (lw_at lw_m6 99 rfl) rfl
theorem q1563 : (Jvm.Cond.methodLink "OpcodeForge$Machine" (84 : Nat) ({ cls := "OpcodeForge$Machine", name := "put16", desc := "(II)V" } : Jvm.MethodName)) ∈ lw_all := lw_g (lw_at lw_m6 100 rfl) rfl
theorem q1564 : (Jvm.Cond.privateMethod ({ cls := "OpcodeForge$Machine", name := "put16", desc := "(II)V" } : Jvm.MethodName)) ∈ lw_tbl := lw_at lw_m6 101 rfl
theorem q1565 : (Jvm.Cond.instanceMethod ({ cls := "OpcodeForge$Machine", name := "put16", desc := "(II)V" } : Jvm.MethodName)) ∈ lw_all := lw_g (lw_at lw_m6 102 rfl) rfl
theorem q1566 : (Jvm.Cond.code ({ cls := "OpcodeForge$Machine", name := "put16", desc := "(II)V" } : Jvm.MethodName) prog_6_method_6_code (3 : Nat) (Option.none : Option Jvm.ClassFile.FieldType)) ∈ lw_all := lw_g (lw_at lw_m6 103 rfl) rfl
theorem q1567 : (Jvm.Cond.methodLink "OpcodeForge$Machine" (80 : Nat) ({ cls := "OpcodeForge$Machine", name := "put", desc := "(II)V" } : Jvm.MethodName)) ∈ lw_all := lw_g (lw_at lw_m6 104 rfl) rfl
theorem q1568 : (Jvm.Cond.methodLink "OpcodeForge$Machine" (87 : Nat) ({ cls := "OpcodeForge$Machine", name := "get16", desc := "(I)I" } : Jvm.MethodName)) ∈ lw_all := lw_g (lw_at lw_m6 105 rfl) rfl
theorem q1569 : (Jvm.Cond.privateMethod ({ cls := "OpcodeForge$Machine", name := "get16", desc := "(I)I" } : Jvm.MethodName)) ∈ lw_tbl := lw_at lw_m6 106 rfl
theorem q1570 : (Jvm.Cond.instanceMethod ({ cls := "OpcodeForge$Machine", name := "get16", desc := "(I)I" } : Jvm.MethodName)) ∈ lw_all := lw_g (lw_at lw_m6 107 rfl) rfl
theorem q1571 : (Jvm.Cond.code ({ cls := "OpcodeForge$Machine", name := "get16", desc := "(I)I" } : Jvm.MethodName) prog_6_method_5_code (2 : Nat) (Option.some Jvm.ClassFile.FieldType.int)) ∈ lw_all := lw_g (lw_at lw_m6 108 rfl) rfl
theorem q1572 : (Jvm.Cond.methodLink "OpcodeForge$Machine" (259 : Nat) ({ cls := "OpcodeForge$Machine", name := "instruction", desc := "()I" } : Jvm.MethodName)) ∈ lw_all := lw_g (lw_at lw_m6 109 rfl) rfl
theorem q1573 : (Jvm.Cond.privateMethod ({ cls := "OpcodeForge$Machine", name := "instruction", desc := "()I" } : Jvm.MethodName)) ∈ lw_tbl := lw_at lw_m6 110 rfl
theorem q1574 : (Jvm.Cond.instanceMethod ({ cls := "OpcodeForge$Machine", name := "instruction", desc := "()I" } : Jvm.MethodName)) ∈ lw_all := lw_g (lw_at lw_m6 111 rfl) rfl
theorem q1575 : (Jvm.Cond.code ({ cls := "OpcodeForge$Machine", name := "instruction", desc := "()I" } : Jvm.MethodName) prog_6_method_54_code (7 : Nat) (Option.some Jvm.ClassFile.FieldType.int)) ∈ lw_all := lw_g (lw_at lw_m6 112 rfl) rfl
theorem q1576 : (Jvm.Cond.methodLink "OpcodeForge$Machine" (227 : Nat) ({ cls := "OpcodeForge$Forms", name := "at", desc := "([BI)I" } : Jvm.MethodName)) ∈ lw_all := lw_g (lw_at lw_m6 113 rfl) rfl
theorem q1577 : (Jvm.Cond.methodLink "OpcodeForge$Machine" (110 : Nat) ({ cls := "OpcodeForge$Machine", name := "hl", desc := "()I" } : Jvm.MethodName)) ∈ lw_all := lw_g (lw_at lw_m6 114 rfl) rfl
theorem q1578 : (Jvm.Cond.privateMethod ({ cls := "OpcodeForge$Machine", name := "hl", desc := "()I" } : Jvm.MethodName)) ∈ lw_tbl := lw_at lw_m6 115 rfl
theorem q1579 : (Jvm.Cond.instanceMethod ({ cls := "OpcodeForge$Machine", name := "hl", desc := "()I" } : Jvm.MethodName)) ∈ lw_all := lw_g (lw_at lw_m6 116 rfl) rfl
theorem q1580 : (Jvm.Cond.code ({ cls := "OpcodeForge$Machine", name := "hl", desc := "()I" } : Jvm.MethodName) prog_6_method_9_code (1 : Nat) (Option.some Jvm.ClassFile.FieldType.int)) ∈ lw_all := lw_g (lw_at lw_m6 117 rfl) rfl
theorem q1581 : (Jvm.Cond.methodLink "OpcodeForge$Machine" (242 : Nat) ({ cls := "OpcodeForge$Machine", name := "plain", desc := "(IIIII)I" } : Jvm.MethodName)) ∈ lw_all := lw_g (lw_at lw_m6 118 rfl) rfl
theorem q1582 : (Jvm.Cond.privateMethod ({ cls := "OpcodeForge$Machine", name := "plain", desc := "(IIIII)I" } : Jvm.MethodName)) ∈ lw_tbl := lw_at lw_m6 119 rfl
theorem q1583 : (Jvm.Cond.instanceMethod ({ cls := "OpcodeForge$Machine", name := "plain", desc := "(IIIII)I" } : Jvm.MethodName)) ∈ lw_all := lw_g (lw_at lw_m6 120 rfl) rfl
theorem q1584 : (Jvm.Cond.code ({ cls := "OpcodeForge$Machine", name := "plain", desc := "(IIIII)I" } : Jvm.MethodName) prog_6_method_35_code (9 : Nat) (Option.some Jvm.ClassFile.FieldType.int)) ∈ lw_all := lw_g (lw_at lw_m6 121 rfl) rfl
theorem q1585 : (Jvm.Cond.methodLink "OpcodeForge$Machine" (128 : Nat) ({ cls := "OpcodeForge$Machine", name := "low", desc := "(IIIIII)V" } : Jvm.MethodName)) ∈ lw_all := lw_g (lw_at lw_m6 122 rfl) rfl
theorem q1586 : (Jvm.Cond.privateMethod ({ cls := "OpcodeForge$Machine", name := "low", desc := "(IIIIII)V" } : Jvm.MethodName)) ∈ lw_tbl := lw_at lw_m6 123 rfl
theorem q1587 : (Jvm.Cond.instanceMethod ({ cls := "OpcodeForge$Machine", name := "low", desc := "(IIIIII)V" } : Jvm.MethodName)) ∈ lw_all := lw_g (lw_at lw_m6 124 rfl) rfl
theorem q1588 : (Jvm.Cond.code ({ cls := "OpcodeForge$Machine", name := "low", desc := "(IIIIII)V" } : Jvm.MethodName) prog_6_method_37_code (9 : Nat) (Option.none : Option Jvm.ClassFile.FieldType)) ∈ lw_all := lw_g (lw_at lw_m6 125 rfl) rfl
theorem q1589 : (Jvm.Cond.methodLink "OpcodeForge$Machine" (146 : Nat) ({ cls := "OpcodeForge$Machine", name := "named", desc := "(II)I" } : Jvm.MethodName)) ∈ lw_all := lw_g (lw_at lw_m6 126 rfl) rfl
theorem q1590 : (Jvm.Cond.privateMethod ({ cls := "OpcodeForge$Machine", name := "named", desc := "(II)I" } : Jvm.MethodName)) ∈ lw_tbl := lw_at lw_m6 127 rfl
theorem q1591 : (Jvm.Cond.instanceMethod ({ cls := "OpcodeForge$Machine", name := "named", desc := "(II)I" } : Jvm.MethodName)) ∈ lw_all := lw_g (lw_at lw_m6 128 rfl) rfl
theorem q1592 : (Jvm.Cond.code ({ cls := "OpcodeForge$Machine", name := "named", desc := "(II)I" } : Jvm.MethodName) prog_6_method_36_code (3 : Nat) (Option.some Jvm.ClassFile.FieldType.int)) ∈ lw_all := lw_g (lw_at lw_m6 129 rfl) rfl
theorem q1593 : (Jvm.Cond.methodLink "OpcodeForge$Machine" (149 : Nat) ({ cls := "OpcodeForge$Machine", name := "relative", desc := "(II)V" } : Jvm.MethodName)) ∈ lw_all := lw_g (lw_at lw_m6 130 rfl) rfl
theorem q1594 : (Jvm.Cond.privateMethod ({ cls := "OpcodeForge$Machine", name := "relative", desc := "(II)V" } : Jvm.MethodName)) ∈ lw_tbl := lw_at lw_m6 131 rfl
theorem q1595 : (Jvm.Cond.instanceMethod ({ cls := "OpcodeForge$Machine", name := "relative", desc := "(II)V" } : Jvm.MethodName)) ∈ lw_all := lw_g (lw_at lw_m6 132 rfl) rfl
theorem q1596 : (Jvm.Cond.code ({ cls := "OpcodeForge$Machine", name := "relative", desc := "(II)V" } : Jvm.MethodName) prog_6_method_38_code (3 : Nat) (Option.none : Option Jvm.ClassFile.FieldType)) ∈ lw_all := lw_g (lw_at lw_m6 133 rfl) rfl
theorem q1597 : (Jvm.Cond.methodLink "OpcodeForge$Machine" (168 : Nat) ({ cls := "OpcodeForge$Machine", name := "swap", desc := "(II)V" } : Jvm.MethodName)) ∈ lw_all := lw_g (lw_at lw_m6 134 rfl) rfl
theorem q1598 : (Jvm.Cond.privateMethod ({ cls := "OpcodeForge$Machine", name := "swap", desc := "(II)V" } : Jvm.MethodName)) ∈ lw_tbl := lw_at lw_m6 135 rfl
theorem q1599 : (Jvm.Cond.instanceMethod ({ cls := "OpcodeForge$Machine", name := "swap", desc := "(II)V" } : Jvm.MethodName)) ∈ lw_all := lw_g (lw_at lw_m6 136 rfl) rfl
theorem q1600 : (Jvm.Cond.code ({ cls := "OpcodeForge$Machine", name := "swap", desc := "(II)V" } : Jvm.MethodName) prog_6_method_32_code (5 : Nat) (Option.none : Option Jvm.ClassFile.FieldType)) ∈ lw_all := lw_g (lw_at lw_m6 137 rfl) rfl
theorem q1601 : (Jvm.Cond.methodLink "OpcodeForge$Machine" (171 : Nat) ({ cls := "OpcodeForge$Machine", name := "jumpBy", desc := "(ZI)V" } : Jvm.MethodName)) ∈ lw_all := lw_g (lw_at lw_m6 138 rfl) rfl
theorem q1602 : (Jvm.Cond.privateMethod ({ cls := "OpcodeForge$Machine", name := "jumpBy", desc := "(ZI)V" } : Jvm.MethodName)) ∈ lw_tbl := lw_at lw_m6 139 rfl
theorem q1603 : (Jvm.Cond.instanceMethod ({ cls := "OpcodeForge$Machine", name := "jumpBy", desc := "(ZI)V" } : Jvm.MethodName)) ∈ lw_all := lw_g (lw_at lw_m6 140 rfl) rfl
theorem q1604 : (Jvm.Cond.code ({ cls := "OpcodeForge$Machine", name := "jumpBy", desc := "(ZI)V" } : Jvm.MethodName) prog_6_method_31_code (3 : Nat) (Option.none : Option Jvm.ClassFile.FieldType)) ∈ lw_all := lw_g (lw_at lw_m6 141 rfl) rfl
theorem q1605 : (Jvm.Cond.methodLink "OpcodeForge$Machine" (175 : Nat) ({ cls := "OpcodeForge$Machine", name := "holds", desc := "(I)Z" } : Jvm.MethodName)) ∈ lw_all := lw_g (lw_at lw_m6 142 rfl) rfl
theorem q1606 : (Jvm.Cond.privateMethod ({ cls := "OpcodeForge$Machine", name := "holds", desc := "(I)Z" } : Jvm.MethodName)) ∈ lw_tbl := lw_at lw_m6 143 rfl
theorem q1607 : (Jvm.Cond.instanceMethod ({ cls := "OpcodeForge$Machine", name := "holds", desc := "(I)Z" } : Jvm.MethodName)) ∈ lw_all := lw_g (lw_at lw_m6 144 rfl) rfl
theorem q1608 : (Jvm.Cond.code ({ cls := "OpcodeForge$Machine", name := "holds", desc := "(I)Z" } : Jvm.MethodName) prog_6_method_15_code (3 : Nat) (Option.some Jvm.ClassFile.FieldType.boolean)) ∈ lw_all := lw_g (lw_at lw_m6 145 rfl) rfl
theorem q1609 : (Jvm.Cond.methodLink "OpcodeForge$Machine" (90 : Nat) ({ cls := "OpcodeForge$Machine", name := "is", desc := "(I)Z" } : Jvm.MethodName)) ∈ lw_all := lw_g (lw_at lw_m6 146 rfl) rfl
theorem q1610 : (Jvm.Cond.privateMethod ({ cls := "OpcodeForge$Machine", name := "is", desc := "(I)Z" } : Jvm.MethodName)) ∈ lw_tbl := lw_at lw_m6 147 rfl
theorem q1611 : (Jvm.Cond.instanceMethod ({ cls := "OpcodeForge$Machine", name := "is", desc := "(I)Z" } : Jvm.MethodName)) ∈ lw_all := lw_g (lw_at lw_m6 148 rfl) rfl
theorem q1612 : (Jvm.Cond.code ({ cls := "OpcodeForge$Machine", name := "is", desc := "(I)Z" } : Jvm.MethodName) prog_6_method_14_code (2 : Nat) (Option.some Jvm.ClassFile.FieldType.boolean)) ∈ lw_all := lw_g (lw_at lw_m6 149 rfl) rfl
theorem q1613 : (Jvm.Cond.methodLink "OpcodeForge$Machine" (152 : Nat) ({ cls := "OpcodeForge$Machine", name := "pair", desc := "(I)I" } : Jvm.MethodName)) ∈ lw_all := lw_g (lw_at lw_m6 150 rfl) rfl
theorem q1614 : (Jvm.Cond.methodLink "OpcodeForge$Machine" (155 : Nat) ({ cls := "OpcodeForge$Machine", name := "sum16", desc := "(II)I" } : Jvm.MethodName)) ∈ lw_all := lw_g (lw_at lw_m6 151 rfl) rfl
theorem q1615 : (Jvm.Cond.privateMethod ({ cls := "OpcodeForge$Machine", name := "sum16", desc := "(II)I" } : Jvm.MethodName)) ∈ lw_tbl := lw_at lw_m6 152 rfl
theorem q1616 : (Jvm.Cond.instanceMethod ({ cls := "OpcodeForge$Machine", name := "sum16", desc := "(II)I" } : Jvm.MethodName)) ∈ lw_all := lw_g (lw_at lw_m6 153 rfl) rfl
theorem q1617 : (Jvm.Cond.code ({ cls := "OpcodeForge$Machine", name := "sum16", desc := "(II)I" } : Jvm.MethodName) prog_6_method_21_code (4 : Nat) (Option.some Jvm.ClassFile.FieldType.int)) ∈ lw_all := lw_g (lw_at lw_m6 154 rfl) rfl
theorem q1618 : (Jvm.Cond.methodLink "OpcodeForge$Machine" (114 : Nat) ({ cls := "OpcodeForge$Machine", name := "setPair", desc := "(II)V" } : Jvm.MethodName)) ∈ lw_all := lw_g (lw_at lw_m6 155 rfl) rfl
theorem q1619 : (Jvm.Cond.methodLink "OpcodeForge$Machine" (158 : Nat) ({ cls := "OpcodeForge$Machine", name := "loads", desc := "(III)V" } : Jvm.MethodName)) ∈ lw_all := lw_g (lw_at lw_m6 156 rfl) rfl
theorem q1620 : (Jvm.Cond.privateMethod ({ cls := "OpcodeForge$Machine", name := "loads", desc := "(III)V" } : Jvm.MethodName)) ∈ lw_tbl := lw_at lw_m6 157 rfl
theorem q1621 : (Jvm.Cond.instanceMethod ({ cls := "OpcodeForge$Machine", name := "loads", desc := "(III)V" } : Jvm.MethodName)) ∈ lw_all := lw_g (lw_at lw_m6 158 rfl) rfl
theorem q1622 : (Jvm.Cond.code ({ cls := "OpcodeForge$Machine", name := "loads", desc := "(III)V" } : Jvm.MethodName) prog_6_method_39_code (6 : Nat) (Option.none : Option Jvm.ClassFile.FieldType)) ∈ lw_all := lw_g (lw_at lw_m6 159 rfl) rfl
theorem q1623 : (Jvm.Cond.methodLink "OpcodeForge$Machine" (132 : Nat) ({ cls := "OpcodeForge$Machine", name := "octet", desc := "(II)I" } : Jvm.MethodName)) ∈ lw_all := lw_g (lw_at lw_m6 160 rfl) rfl
theorem q1624 : (Jvm.Cond.privateMethod ({ cls := "OpcodeForge$Machine", name := "octet", desc := "(II)I" } : Jvm.MethodName)) ∈ lw_tbl := lw_at lw_m6 161 rfl
theorem q1625 : (Jvm.Cond.instanceMethod ({ cls := "OpcodeForge$Machine", name := "octet", desc := "(II)I" } : Jvm.MethodName)) ∈ lw_all := lw_g (lw_at lw_m6 162 rfl) rfl
theorem q1626 : (Jvm.Cond.code ({ cls := "OpcodeForge$Machine", name := "octet", desc := "(II)I" } : Jvm.MethodName) prog_6_method_28_code (3 : Nat) (Option.some Jvm.ClassFile.FieldType.int)) ∈ lw_all := lw_g (lw_at lw_m6 163 rfl) rfl
theorem q1627 : (Jvm.Cond.methodLink "OpcodeForge$Machine" (161 : Nat) ({ cls := "OpcodeForge$Machine", name := "stepped", desc := "(IZ)I" } : Jvm.MethodName)) ∈ lw_all := lw_g (lw_at lw_m6 164 rfl) rfl
theorem q1628 : (Jvm.Cond.privateMethod ({ cls := "OpcodeForge$Machine", name := "stepped", desc := "(IZ)I" } : Jvm.MethodName)) ∈ lw_tbl := lw_at lw_m6 165 rfl
theorem q1629 : (Jvm.Cond.instanceMethod ({ cls := "OpcodeForge$Machine", name := "stepped", desc := "(IZ)I" } : Jvm.MethodName)) ∈ lw_all := lw_g (lw_at lw_m6 166 rfl) rfl
theorem q1630 : (Jvm.Cond.code ({ cls := "OpcodeForge$Machine", name := "stepped", desc := "(IZ)I" } : Jvm.MethodName) prog_6_method_20_code (5 : Nat) (Option.some Jvm.ClassFile.FieldType.int)) ∈ lw_all := lw_g (lw_at lw_m6 167 rfl) rfl
theorem q1631 : (Jvm.Cond.methodLink "OpcodeForge$Machine" (97 : Nat) ({ cls := "OpcodeForge$Machine", name := "added", desc := "(III)I" } : Jvm.MethodName)) ∈ lw_all := lw_g (lw_at lw_m6 168 rfl) rfl
theorem q1632 : (Jvm.Cond.privateMethod ({ cls := "OpcodeForge$Machine", name := "added", desc := "(III)I" } : Jvm.MethodName)) ∈ lw_tbl := lw_at lw_m6 169 rfl
theorem q1633 : (Jvm.Cond.instanceMethod ({ cls := "OpcodeForge$Machine", name := "added", desc := "(III)I" } : Jvm.MethodName)) ∈ lw_all := lw_g (lw_at lw_m6 170 rfl) rfl
theorem q1634 : (Jvm.Cond.code ({ cls := "OpcodeForge$Machine", name := "added", desc := "(III)I" } : Jvm.MethodName) prog_6_method_16_code (5 : Nat) (Option.some Jvm.ClassFile.FieldType.int)) ∈ lw_all := lw_g (lw_at lw_m6 171 rfl) rfl
theorem q1635 : (Jvm.Cond.methodLink "OpcodeForge$Machine" (94 : Nat) ({ cls := "OpcodeForge$Machine", name := "shown", desc := "(I)I" } : Jvm.MethodName)) ∈ lw_all := lw_g (lw_at lw_m6 172 rfl) rfl
theorem q1636 : (Jvm.Cond.static ({ cls := "OpcodeForge$Machine", name := "shown", desc := "(I)I" } : Jvm.MethodName)) ∈ lw_all := lw_g (lw_at lw_m6 173 rfl) rfl
theorem q1637 : (Jvm.Cond.code ({ cls := "OpcodeForge$Machine", name := "shown", desc := "(I)I" } : Jvm.MethodName) prog_6_method_12_code (1 : Nat) (Option.some Jvm.ClassFile.FieldType.int)) ∈ lw_all := lw_g (lw_at lw_m6 174 rfl) rfl
theorem q1638 : (Jvm.Cond.methodLink "OpcodeForge$Machine" (101 : Nat) ({ cls := "OpcodeForge$Machine", name := "taken", desc := "(III)I" } : Jvm.MethodName)) ∈ lw_all := lw_g (lw_at lw_m6 175 rfl) rfl
theorem q1639 : (Jvm.Cond.privateMethod ({ cls := "OpcodeForge$Machine", name := "taken", desc := "(III)I" } : Jvm.MethodName)) ∈ lw_tbl := lw_at lw_m6 176 rfl
theorem q1640 : (Jvm.Cond.instanceMethod ({ cls := "OpcodeForge$Machine", name := "taken", desc := "(III)I" } : Jvm.MethodName)) ∈ lw_all := lw_g (lw_at lw_m6 177 rfl) rfl
theorem q1641 : (Jvm.Cond.code ({ cls := "OpcodeForge$Machine", name := "taken", desc := "(III)I" } : Jvm.MethodName) prog_6_method_17_code (5 : Nat) (Option.some Jvm.ClassFile.FieldType.int)) ∈ lw_all := lw_g (lw_at lw_m6 178 rfl) rfl
theorem q1642 : (Jvm.Cond.methodLink "OpcodeForge$Machine" (135 : Nat) ({ cls := "OpcodeForge$Machine", name := "setOctet", desc := "(III)V" } : Jvm.MethodName)) ∈ lw_all := lw_g (lw_at lw_m6 179 rfl) rfl
theorem q1643 : (Jvm.Cond.privateMethod ({ cls := "OpcodeForge$Machine", name := "setOctet", desc := "(III)V" } : Jvm.MethodName)) ∈ lw_tbl := lw_at lw_m6 180 rfl
theorem q1644 : (Jvm.Cond.instanceMethod ({ cls := "OpcodeForge$Machine", name := "setOctet", desc := "(III)V" } : Jvm.MethodName)) ∈ lw_all := lw_g (lw_at lw_m6 181 rfl) rfl
theorem q1645 : (Jvm.Cond.code ({ cls := "OpcodeForge$Machine", name := "setOctet", desc := "(III)V" } : Jvm.MethodName) prog_6_method_29_code (4 : Nat) (Option.none : Option Jvm.ClassFile.FieldType)) ∈ lw_all := lw_g (lw_at lw_m6 182 rfl) rfl
theorem q1646 : (Jvm.Cond.methodLink "OpcodeForge$Machine" (165 : Nat) ({ cls := "OpcodeForge$Machine", name := "single", desc := "(I)V" } : Jvm.MethodName)) ∈ lw_all := lw_g (lw_at lw_m6 183 rfl) rfl
theorem q1647 : (Jvm.Cond.privateMethod ({ cls := "OpcodeForge$Machine", name := "single", desc := "(I)V" } : Jvm.MethodName)) ∈ lw_tbl := lw_at lw_m6 184 rfl
theorem q1648 : (Jvm.Cond.instanceMethod ({ cls := "OpcodeForge$Machine", name := "single", desc := "(I)V" } : Jvm.MethodName)) ∈ lw_all := lw_g (lw_at lw_m6 185 rfl) rfl
theorem q1649 : (Jvm.Cond.code ({ cls := "OpcodeForge$Machine", name := "single", desc := "(I)V" } : Jvm.MethodName) prog_6_method_27_code (3 : Nat) (Option.none : Option Jvm.ClassFile.FieldType)) ∈ lw_all := lw_g (lw_at lw_m6 186 rfl) rfl
theorem q1650 : (Jvm.Cond.methodLink "OpcodeForge$Machine" (121 : Nat) ({ cls := "OpcodeForge$Machine", name := "adjust", desc := "()V" } : Jvm.MethodName)) ∈ lw_all := lw_g (lw_at lw_m6 187 rfl) rfl
theorem q1651 : (Jvm.Cond.privateMethod ({ cls := "OpcodeForge$Machine", name := "adjust", desc := "()V" } : Jvm.MethodName)) ∈ lw_tbl := lw_at lw_m6 188 rfl
theorem q1652 : (Jvm.Cond.instanceMethod ({ cls := "OpcodeForge$Machine", name := "adjust", desc := "()V" } : Jvm.MethodName)) ∈ lw_all := lw_g (lw_at lw_m6 189 rfl) rfl
theorem q1653 : (Jvm.Cond.code ({ cls := "OpcodeForge$Machine", name := "adjust", desc := "()V" } : Jvm.MethodName) prog_6_method_26_code (6 : Nat) (Option.none : Option Jvm.ClassFile.FieldType)) ∈ lw_all := lw_g (lw_at lw_m6 190 rfl) rfl
theorem q1654 : (Jvm.Cond.methodLink "OpcodeForge$Machine" (107 : Nat) ({ cls := "OpcodeForge$Machine", name := "parity", desc := "(I)I" } : Jvm.MethodName)) ∈ lw_all := lw_g (lw_at lw_m6 191 rfl) rfl
theorem q1655 : (Jvm.Cond.static ({ cls := "OpcodeForge$Machine", name := "parity", desc := "(I)I" } : Jvm.MethodName)) ∈ lw_all := lw_g (lw_at lw_m6 192 rfl) rfl
theorem q1656 : (Jvm.Cond.code ({ cls := "OpcodeForge$Machine", name := "parity", desc := "(I)I" } : Jvm.MethodName) prog_6_method_13_code (2 : Nat) (Option.some Jvm.ClassFile.FieldType.int)) ∈ lw_all := lw_g (lw_at lw_m6 193 rfl) rfl
theorem q1657 : (Jvm.Cond.methodLink "OpcodeForge$Machine" (124 : Nat) ({ cls := "OpcodeForge$Machine", name := "accumulator", desc := "(I)V" } : Jvm.MethodName)) ∈ lw_all := lw_g (lw_at lw_m6 194 rfl) rfl
theorem q1658 : (Jvm.Cond.privateMethod ({ cls := "OpcodeForge$Machine", name := "accumulator", desc := "(I)V" } : Jvm.MethodName)) ∈ lw_tbl := lw_at lw_m6 195 rfl
theorem q1659 : (Jvm.Cond.instanceMethod ({ cls := "OpcodeForge$Machine", name := "accumulator", desc := "(I)V" } : Jvm.MethodName)) ∈ lw_all := lw_g (lw_at lw_m6 196 rfl) rfl
theorem q1660 : (Jvm.Cond.code ({ cls := "OpcodeForge$Machine", name := "accumulator", desc := "(I)V" } : Jvm.MethodName) prog_6_method_24_code (2 : Nat) (Option.none : Option Jvm.ClassFile.FieldType)) ∈ lw_all := lw_g (lw_at lw_m6 197 rfl) rfl
theorem q1661 : (Jvm.Cond.methodLink "OpcodeForge$Machine" (117 : Nat) ({ cls := "OpcodeForge$Machine", name := "moved", desc := "(II)I" } : Jvm.MethodName)) ∈ lw_all := lw_g (lw_at lw_m6 198 rfl) rfl
theorem q1662 : (Jvm.Cond.privateMethod ({ cls := "OpcodeForge$Machine", name := "moved", desc := "(II)I" } : Jvm.MethodName)) ∈ lw_tbl := lw_at lw_m6 199 rfl
theorem q1663 : (Jvm.Cond.instanceMethod ({ cls := "OpcodeForge$Machine", name := "moved", desc := "(II)I" } : Jvm.MethodName)) ∈ lw_all := lw_g (lw_at lw_m6 200 rfl) rfl
theorem q1664 : (Jvm.Cond.code ({ cls := "OpcodeForge$Machine", name := "moved", desc := "(II)I" } : Jvm.MethodName) prog_6_method_23_code (8 : Nat) (Option.some Jvm.ClassFile.FieldType.int)) ∈ lw_all := lw_g (lw_at lw_m6 201 rfl) rfl
theorem q1665 : (Jvm.Cond.methodLink "OpcodeForge$Machine" (139 : Nat) ({ cls := "OpcodeForge$Machine", name := "arithmetic", desc := "(II)V" } : Jvm.MethodName)) ∈ lw_all := lw_g (lw_at lw_m6 202 rfl) rfl
theorem q1666 : (Jvm.Cond.privateMethod ({ cls := "OpcodeForge$Machine", name := "arithmetic", desc := "(II)V" } : Jvm.MethodName)) ∈ lw_tbl := lw_at lw_m6 203 rfl
theorem q1667 : (Jvm.Cond.instanceMethod ({ cls := "OpcodeForge$Machine", name := "arithmetic", desc := "(II)V" } : Jvm.MethodName)) ∈ lw_all := lw_g (lw_at lw_m6 204 rfl) rfl
theorem q1668 : (Jvm.Cond.code ({ cls := "OpcodeForge$Machine", name := "arithmetic", desc := "(II)V" } : Jvm.MethodName) prog_6_method_18_code (5 : Nat) (Option.none : Option Jvm.ClassFile.FieldType)) ∈ lw_all := lw_g (lw_at lw_m6 205 rfl) rfl
theorem q1669 : (Jvm.Cond.methodLink "OpcodeForge$Machine" (104 : Nat) ({ cls := "OpcodeForge$Machine", name := "logic", desc := "(II)V" } : Jvm.MethodName)) ∈ lw_all := lw_g (lw_at lw_m6 206 rfl) rfl
theorem q1670 : (Jvm.Cond.privateMethod ({ cls := "OpcodeForge$Machine", name := "logic", desc := "(II)V" } : Jvm.MethodName)) ∈ lw_tbl := lw_at lw_m6 207 rfl
theorem q1671 : (Jvm.Cond.instanceMethod ({ cls := "OpcodeForge$Machine", name := "logic", desc := "(II)V" } : Jvm.MethodName)) ∈ lw_all := lw_g (lw_at lw_m6 208 rfl) rfl
theorem q1672 : (Jvm.Cond.code ({ cls := "OpcodeForge$Machine", name := "logic", desc := "(II)V" } : Jvm.MethodName) prog_6_method_19_code (3 : Nat) (Option.none : Option Jvm.ClassFile.FieldType)) ∈ lw_all := lw_g (lw_at lw_m6 209 rfl) rfl
theorem q1673 : (Jvm.Cond.methodLink "OpcodeForge$Machine" (142 : Nat) ({ cls := "OpcodeForge$Machine", name := "high", desc := "(IIII)V" } : Jvm.MethodName)) ∈ lw_all := lw_g (lw_at lw_m6 210 rfl) rfl
theorem q1674 : (Jvm.Cond.privateMethod ({ cls := "OpcodeForge$Machine", name := "high", desc := "(IIII)V" } : Jvm.MethodName)) ∈ lw_tbl := lw_at lw_m6 211 rfl
theorem q1675 : (Jvm.Cond.instanceMethod ({ cls := "OpcodeForge$Machine", name := "high", desc := "(IIII)V" } : Jvm.MethodName)) ∈ lw_all := lw_g (lw_at lw_m6 212 rfl) rfl
theorem q1676 : (Jvm.Cond.code ({ cls := "OpcodeForge$Machine", name := "high", desc := "(IIII)V" } : Jvm.MethodName) prog_6_method_40_code (7 : Nat) (Option.none : Option Jvm.ClassFile.FieldType)) ∈ lw_all := lw_g (lw_at lw_m6 213 rfl) rfl
theorem q1677 : (Jvm.Cond.methodLink "OpcodeForge$Machine" (178 : Nat) ({ cls := "OpcodeForge$Machine", name := "pop", desc := "()I" } : Jvm.MethodName)) ∈ lw_all := lw_g (lw_at lw_m6 214 rfl) rfl
theorem q1678 : (Jvm.Cond.privateMethod ({ cls := "OpcodeForge$Machine", name := "pop", desc := "()I" } : Jvm.MethodName)) ∈ lw_tbl := lw_at lw_m6 215 rfl
theorem q1679 : (Jvm.Cond.instanceMethod ({ cls := "OpcodeForge$Machine", name := "pop", desc := "()I" } : Jvm.MethodName)) ∈ lw_all := lw_g (lw_at lw_m6 216 rfl) rfl
theorem q1680 : (Jvm.Cond.code ({ cls := "OpcodeForge$Machine", name := "pop", desc := "()I" } : Jvm.MethodName) prog_6_method_8_code (2 : Nat) (Option.some Jvm.ClassFile.FieldType.int)) ∈ lw_all := lw_g (lw_at lw_m6 217 rfl) rfl
theorem q1681 : (Jvm.Cond.methodLink "OpcodeForge$Machine" (181 : Nat) ({ cls := "OpcodeForge$Machine", name := "others", desc := "(III)V" } : Jvm.MethodName)) ∈ lw_all := lw_g (lw_at lw_m6 218 rfl) rfl
theorem q1682 : (Jvm.Cond.privateMethod ({ cls := "OpcodeForge$Machine", name := "others", desc := "(III)V" } : Jvm.MethodName)) ∈ lw_tbl := lw_at lw_m6 219 rfl
theorem q1683 : (Jvm.Cond.instanceMethod ({ cls := "OpcodeForge$Machine", name := "others", desc := "(III)V" } : Jvm.MethodName)) ∈ lw_all := lw_g (lw_at lw_m6 220 rfl) rfl
theorem q1684 : (Jvm.Cond.code ({ cls := "OpcodeForge$Machine", name := "others", desc := "(III)V" } : Jvm.MethodName) prog_6_method_42_code (6 : Nat) (Option.none : Option Jvm.ClassFile.FieldType)) ∈ lw_all := lw_g (lw_at lw_m6 221 rfl) rfl
theorem q1685 : (Jvm.Cond.methodLink "OpcodeForge$Machine" (190 : Nat) ({ cls := "OpcodeForge$Machine", name := "out", desc := "(II)V" } : Jvm.MethodName)) ∈ lw_all := lw_g (lw_at lw_m6 222 rfl) rfl
theorem q1686 : (Jvm.Cond.privateMethod ({ cls := "OpcodeForge$Machine", name := "out", desc := "(II)V" } : Jvm.MethodName)) ∈ lw_tbl := lw_at lw_m6 223 rfl
theorem q1687 : (Jvm.Cond.instanceMethod ({ cls := "OpcodeForge$Machine", name := "out", desc := "(II)V" } : Jvm.MethodName)) ∈ lw_all := lw_g (lw_at lw_m6 224 rfl) rfl
theorem q1688 : (Jvm.Cond.code ({ cls := "OpcodeForge$Machine", name := "out", desc := "(II)V" } : Jvm.MethodName) prog_6_method_34_code (3 : Nat) (Option.none : Option Jvm.ClassFile.FieldType)) ∈ lw_all := lw_g (lw_at lw_m6 225 rfl) rfl
theorem q1689 : (Jvm.Cond.methodLink "OpcodeForge$Machine" (193 : Nat) ({ cls := "OpcodeForge$Machine", name := "in", desc := "(I)I" } : Jvm.MethodName)) ∈ lw_all := lw_g (lw_at lw_m6 226 rfl) rfl
theorem q1690 : (Jvm.Cond.privateMethod ({ cls := "OpcodeForge$Machine", name := "in", desc := "(I)I" } : Jvm.MethodName)) ∈ lw_tbl := lw_at lw_m6 227 rfl
theorem q1691 : (Jvm.Cond.instanceMethod ({ cls := "OpcodeForge$Machine", name := "in", desc := "(I)I" } : Jvm.MethodName)) ∈ lw_all := lw_g (lw_at lw_m6 228 rfl) rfl
theorem q1692 : (Jvm.Cond.code ({ cls := "OpcodeForge$Machine", name := "in", desc := "(I)I" } : Jvm.MethodName) prog_6_method_33_code (2 : Nat) (Option.some Jvm.ClassFile.FieldType.int)) ∈ lw_all := lw_g (lw_at lw_m6 229 rfl) rfl
theorem q1693 : (Jvm.Cond.methodLink "OpcodeForge$Machine" (184 : Nat) ({ cls := "OpcodeForge$Machine", name := "call", desc := "(ZI)V" } : Jvm.MethodName)) ∈ lw_all := lw_g (lw_at lw_m6 230 rfl) rfl
theorem q1694 : (Jvm.Cond.privateMethod ({ cls := "OpcodeForge$Machine", name := "call", desc := "(ZI)V" } : Jvm.MethodName)) ∈ lw_tbl := lw_at lw_m6 231 rfl
theorem q1695 : (Jvm.Cond.instanceMethod ({ cls := "OpcodeForge$Machine", name := "call", desc := "(ZI)V" } : Jvm.MethodName)) ∈ lw_all := lw_g (lw_at lw_m6 232 rfl) rfl
theorem q1696 : (Jvm.Cond.code ({ cls := "OpcodeForge$Machine", name := "call", desc := "(ZI)V" } : Jvm.MethodName) prog_6_method_41_code (4 : Nat) (Option.none : Option Jvm.ClassFile.FieldType)) ∈ lw_all := lw_g (lw_at lw_m6 233 rfl) rfl
theorem q1697 : (Jvm.Cond.methodLink "OpcodeForge$Machine" (246 : Nat) ({ cls := "OpcodeForge$Machine", name := "bits", desc := "(II)V" } : Jvm.MethodName)) ∈ lw_all := lw_g (lw_at lw_m6 234 rfl) rfl
theorem q1698 : (Jvm.Cond.privateMethod ({ cls := "OpcodeForge$Machine", name := "bits", desc := "(II)V" } : Jvm.MethodName)) ∈ lw_tbl := lw_at lw_m6 235 rfl
theorem q1699 : (Jvm.Cond.instanceMethod ({ cls := "OpcodeForge$Machine", name := "bits", desc := "(II)V" } : Jvm.MethodName)) ∈ lw_all := lw_g (lw_at lw_m6 236 rfl) rfl
theorem q1700 : (Jvm.Cond.code ({ cls := "OpcodeForge$Machine", name := "bits", desc := "(II)V" } : Jvm.MethodName) prog_6_method_43_code (8 : Nat) (Option.none : Option Jvm.ClassFile.FieldType)) ∈ lw_all := lw_g (lw_at lw_m6 237 rfl) rfl
theorem q1701 : (Jvm.Cond.methodLink "OpcodeForge$Machine" (196 : Nat) ({ cls := "OpcodeForge$Machine", name := "rotated", desc := "(II)I" } : Jvm.MethodName)) ∈ lw_all := lw_g (lw_at lw_m6 238 rfl) rfl
theorem q1702 : (Jvm.Cond.privateMethod ({ cls := "OpcodeForge$Machine", name := "rotated", desc := "(II)I" } : Jvm.MethodName)) ∈ lw_tbl := lw_at lw_m6 239 rfl
theorem q1703 : (Jvm.Cond.instanceMethod ({ cls := "OpcodeForge$Machine", name := "rotated", desc := "(II)I" } : Jvm.MethodName)) ∈ lw_all := lw_g (lw_at lw_m7 0 rfl) rfl
theorem q1704 : (Jvm.Cond.code ({ cls := "OpcodeForge$Machine", name := "rotated", desc := "(II)I" } : Jvm.MethodName) prog_6_method_25_code (4 : Nat) (Option.some Jvm.ClassFile.FieldType.int)) ∈ lw_all := lw_g (lw_at lw_m7 1 rfl) rfl
theorem q1705 : (Jvm.Cond.methodLink "OpcodeForge$Machine" (249 : Nat) ({ cls := "OpcodeForge$Machine", name := "extra", desc := "(II)V" } : Jvm.MethodName)) ∈ lw_all := lw_g (lw_at lw_m7 2 rfl) rfl
theorem q1706 : (Jvm.Cond.privateMethod ({ cls := "OpcodeForge$Machine", name := "extra", desc := "(II)V" } : Jvm.MethodName)) ∈ lw_tbl := lw_at lw_m7 3 rfl
theorem q1707 : (Jvm.Cond.instanceMethod ({ cls := "OpcodeForge$Machine", name := "extra", desc := "(II)V" } : Jvm.MethodName)) ∈ lw_all := lw_g (lw_at lw_m7 4 rfl) rfl
theorem q1708 : (Jvm.Cond.code ({ cls := "OpcodeForge$Machine", name := "extra", desc := "(II)V" } : Jvm.MethodName) prog_6_method_44_code (6 : Nat) (Option.none : Option Jvm.ClassFile.FieldType)) ∈ lw_all := lw_g (lw_at lw_m7 5 rfl) rfl
theorem q1709 : (Jvm.Cond.methodLink "OpcodeForge$Machine" (199 : Nat) ({ cls := "OpcodeForge$Machine", name := "block", desc := "(III)V" } : Jvm.MethodName)) ∈ lw_all := lw_g (lw_at lw_m7 6 rfl) rfl
theorem q1710 : (Jvm.Cond.privateMethod ({ cls := "OpcodeForge$Machine", name := "block", desc := "(III)V" } : Jvm.MethodName)) ∈ lw_tbl := lw_at lw_m7 7 rfl
theorem q1711 : (Jvm.Cond.instanceMethod ({ cls := "OpcodeForge$Machine", name := "block", desc := "(III)V" } : Jvm.MethodName)) ∈ lw_all := lw_g (lw_at lw_m7 8 rfl) rfl
theorem q1712 : (Jvm.Cond.code ({ cls := "OpcodeForge$Machine", name := "block", desc := "(III)V" } : Jvm.MethodName) prog_6_method_47_code (6 : Nat) (Option.none : Option Jvm.ClassFile.FieldType)) ∈ lw_all := lw_g (lw_at lw_m7 9 rfl) rfl
theorem q1713 : (Jvm.Cond.methodLink "OpcodeForge$Machine" (212 : Nat) ({ cls := "OpcodeForge$Machine", name := "copy", desc := "(I)V" } : Jvm.MethodName)) ∈ lw_all := lw_g (lw_at lw_m7 10 rfl) rfl
theorem q1714 : (Jvm.Cond.privateMethod ({ cls := "OpcodeForge$Machine", name := "copy", desc := "(I)V" } : Jvm.MethodName)) ∈ lw_tbl := lw_at lw_m7 11 rfl
theorem q1715 : (Jvm.Cond.instanceMethod ({ cls := "OpcodeForge$Machine", name := "copy", desc := "(I)V" } : Jvm.MethodName)) ∈ lw_all := lw_g (lw_at lw_m7 12 rfl) rfl
theorem q1716 : (Jvm.Cond.code ({ cls := "OpcodeForge$Machine", name := "copy", desc := "(I)V" } : Jvm.MethodName) prog_6_method_48_code (4 : Nat) (Option.none : Option Jvm.ClassFile.FieldType)) ∈ lw_all := lw_g (lw_at lw_m7 13 rfl) rfl
theorem q1717 : (Jvm.Cond.methodLink "OpcodeForge$Machine" (215 : Nat) ({ cls := "OpcodeForge$Machine", name := "search", desc := "(I)V" } : Jvm.MethodName)) ∈ lw_all := lw_g (lw_at lw_m7 14 rfl) rfl
theorem q1718 : (Jvm.Cond.privateMethod ({ cls := "OpcodeForge$Machine", name := "search", desc := "(I)V" } : Jvm.MethodName)) ∈ lw_tbl := lw_at lw_m7 15 rfl
theorem q1719 : (Jvm.Cond.instanceMethod ({ cls := "OpcodeForge$Machine", name := "search", desc := "(I)V" } : Jvm.MethodName)) ∈ lw_all := lw_g (lw_at lw_m7 16 rfl) rfl
theorem q1720 : (Jvm.Cond.code ({ cls := "OpcodeForge$Machine", name := "search", desc := "(I)V" } : Jvm.MethodName) prog_6_method_49_code (6 : Nat) (Option.none : Option Jvm.ClassFile.FieldType)) ∈ lw_all := lw_g (lw_at lw_m7 17 rfl) rfl
theorem q1721 : (Jvm.Cond.methodLink "OpcodeForge$Machine" (218 : Nat) ({ cls := "OpcodeForge$Machine", name := "inBlock", desc := "(I)V" } : Jvm.MethodName)) ∈ lw_all := lw_g (lw_at lw_m7 18 rfl) rfl
theorem q1722 : (Jvm.Cond.privateMethod ({ cls := "OpcodeForge$Machine", name := "inBlock", desc := "(I)V" } : Jvm.MethodName)) ∈ lw_tbl := lw_at lw_m7 19 rfl
theorem q1723 : (Jvm.Cond.instanceMethod ({ cls := "OpcodeForge$Machine", name := "inBlock", desc := "(I)V" } : Jvm.MethodName)) ∈ lw_all := lw_g (lw_at lw_m7 20 rfl) rfl
theorem q1724 : (Jvm.Cond.code ({ cls := "OpcodeForge$Machine", name := "inBlock", desc := "(I)V" } : Jvm.MethodName) prog_6_method_51_code (3 : Nat) (Option.none : Option Jvm.ClassFile.FieldType)) ∈ lw_all := lw_g (lw_at lw_m7 21 rfl) rfl
theorem q1725 : (Jvm.Cond.methodLink "OpcodeForge$Machine" (224 : Nat) ({ cls := "OpcodeForge$Machine", name := "counted", desc := "(II)V" } : Jvm.MethodName)) ∈ lw_all := lw_g (lw_at lw_m7 22 rfl) rfl
theorem q1726 : (Jvm.Cond.privateMethod ({ cls := "OpcodeForge$Machine", name := "counted", desc := "(II)V" } : Jvm.MethodName)) ∈ lw_tbl := lw_at lw_m7 23 rfl
theorem q1727 : (Jvm.Cond.instanceMethod ({ cls := "OpcodeForge$Machine", name := "counted", desc := "(II)V" } : Jvm.MethodName)) ∈ lw_all := lw_g (lw_at lw_m7 24 rfl) rfl
theorem q1728 : (Jvm.Cond.code ({ cls := "OpcodeForge$Machine", name := "counted", desc := "(II)V" } : Jvm.MethodName) prog_6_method_50_code (3 : Nat) (Option.none : Option Jvm.ClassFile.FieldType)) ∈ lw_all := lw_g (lw_at lw_m7 25 rfl) rfl
theorem q1729 : (Jvm.Cond.methodLink "OpcodeForge$Machine" (221 : Nat) ({ cls := "OpcodeForge$Machine", name := "outBlock", desc := "(I)V" } : Jvm.MethodName)) ∈ lw_all := lw_g (lw_at lw_m7 26 rfl) rfl
theorem q1730 : (Jvm.Cond.privateMethod ({ cls := "OpcodeForge$Machine", name := "outBlock", desc := "(I)V" } : Jvm.MethodName)) ∈ lw_tbl := lw_at lw_m7 27 rfl
theorem q1731 : (Jvm.Cond.instanceMethod ({ cls := "OpcodeForge$Machine", name := "outBlock", desc := "(I)V" } : Jvm.MethodName)) ∈ lw_all := lw_g (lw_at lw_m7 28 rfl) rfl
theorem q1732 : (Jvm.Cond.code ({ cls := "OpcodeForge$Machine", name := "outBlock", desc := "(I)V" } : Jvm.MethodName) prog_6_method_52_code (3 : Nat) (Option.none : Option Jvm.ClassFile.FieldType)) ∈ lw_all := lw_g (lw_at lw_m7 29 rfl) rfl
theorem q1733 : (Jvm.Cond.methodLink "OpcodeForge$Machine" (202 : Nat) ({ cls := "OpcodeForge$Machine", name := "carried16", desc := "(IZ)V" } : Jvm.MethodName)) ∈ lw_all := lw_g (lw_at lw_m7 30 rfl) rfl
theorem q1734 : (Jvm.Cond.privateMethod ({ cls := "OpcodeForge$Machine", name := "carried16", desc := "(IZ)V" } : Jvm.MethodName)) ∈ lw_tbl := lw_at lw_m7 31 rfl
theorem q1735 : (Jvm.Cond.instanceMethod ({ cls := "OpcodeForge$Machine", name := "carried16", desc := "(IZ)V" } : Jvm.MethodName)) ∈ lw_all := lw_g (lw_at lw_m7 32 rfl) rfl
theorem q1736 : (Jvm.Cond.code ({ cls := "OpcodeForge$Machine", name := "carried16", desc := "(IZ)V" } : Jvm.MethodName) prog_6_method_22_code (7 : Nat) (Option.none : Option Jvm.ClassFile.FieldType)) ∈ lw_all := lw_g (lw_at lw_m7 33 rfl) rfl
theorem q1737 : (Jvm.Cond.methodLink "OpcodeForge$Machine" (206 : Nat) ({ cls := "OpcodeForge$Machine", name := "special", desc := "(I)V" } : Jvm.MethodName)) ∈ lw_all := lw_g (lw_at lw_m7 34 rfl) rfl
theorem q1738 : (Jvm.Cond.privateMethod ({ cls := "OpcodeForge$Machine", name := "special", desc := "(I)V" } : Jvm.MethodName)) ∈ lw_tbl := lw_at lw_m7 35 rfl
theorem q1739 : (Jvm.Cond.instanceMethod ({ cls := "OpcodeForge$Machine", name := "special", desc := "(I)V" } : Jvm.MethodName)) ∈ lw_all := lw_g (lw_at lw_m7 36 rfl) rfl
theorem q1740 : (Jvm.Cond.code ({ cls := "OpcodeForge$Machine", name := "special", desc := "(I)V" } : Jvm.MethodName) prog_6_method_45_code (3 : Nat) (Option.none : Option Jvm.ClassFile.FieldType)) ∈ lw_all := lw_g (lw_at lw_m7 37 rfl) rfl
theorem q1741 : (Jvm.Cond.methodLink "OpcodeForge$Machine" (209 : Nat) ({ cls := "OpcodeForge$Machine", name := "digit", desc := "(I)V" } : Jvm.MethodName)) ∈ lw_all := lw_g (lw_at lw_m7 38 rfl) rfl
theorem q1742 : (Jvm.Cond.privateMethod ({ cls := "OpcodeForge$Machine", name := "digit", desc := "(I)V" } : Jvm.MethodName)) ∈ lw_tbl := lw_at lw_m7 39 rfl
theorem q1743 : (Jvm.Cond.instanceMethod ({ cls := "OpcodeForge$Machine", name := "digit", desc := "(I)V" } : Jvm.MethodName)) ∈ lw_all := lw_g (lw_at lw_m7 40 rfl) rfl
theorem q1744 : (Jvm.Cond.code ({ cls := "OpcodeForge$Machine", name := "digit", desc := "(I)V" } : Jvm.MethodName) prog_6_method_46_code (2 : Nat) (Option.none : Option Jvm.ClassFile.FieldType)) ∈ lw_all := lw_g (lw_at lw_m7 41 rfl) rfl
theorem q1745 : (Jvm.Cond.methodLink "OpcodeForge$Machine" (252 : Nat) ({ cls := "OpcodeForge$Forms", name := "hasIndex", desc := "(I)Z" } : Jvm.MethodName)) ∈ lw_all := lw_g (lw_at lw_m7 42 rfl) rfl
theorem q1760 : (Jvm.Cond.instanceMethod ({ cls := "OpcodeForge$Machine", name := "clear", desc := "()V" } : Jvm.MethodName)) ∈ lw_all := lw_g (lw_at lw_m7 57 rfl) rfl
theorem q1761 : (Jvm.Cond.selects "OpcodeForge$Machine" ({ cls := "OpcodeForge$Machine", name := "clear", desc := "()V" } : Jvm.MethodName) ({ cls := "OpcodeForge$Machine", name := "clear", desc := "()V" } : Jvm.MethodName)) ∈ lw_all := lw_g (lw_at lw_m7 58 rfl) rfl
theorem q1762 : (Jvm.Cond.code ({ cls := "OpcodeForge$Machine", name := "clear", desc := "()V" } : Jvm.MethodName) prog_6_method_2_code (2 : Nat) (Option.none : Option Jvm.ClassFile.FieldType)) ∈ lw_all := lw_g (lw_at lw_m7 59 rfl) rfl
theorem in_X7 : ∀ w ∈ wsX70, w ∈ lw_all := lw_in wsX70 [764, 766, 768, 770, 772, 774, 776, 778, 780, 782, 784, 786, 788, 790, 792, 794, 796, 798, 800] (by decide +kernel) (by decide +kernel)
def RX8 : String := "OpcodeForgeModel"
def TX8 : u_T := fun k => match k with
  | 0 => ("OpcodeForgeModel", "source", "[I", true)
  | 1 => ("OpcodeForgeModel", "size", "I", false)
  | 2 => ("OpcodeForgeModel", "at", "I", false)
  | 3 => ("OpcodeForgeModel", "kind", "I", false)
  | 4 => ("OpcodeForgeModel", "place", "I", false)
  | 5 => ("OpcodeForgeModel", "stop", "I", false)
  | 6 => ("OpcodeForgeModel", "value", "I", false)
  | 7 => ("OpcodeForgeModel", "word", "J", false)
  | 8 => ("OpcodeForgeModel", "fault", "I", false)
  | 9 => ("OpcodeForgeModel", "faultPlace", "I", false)
  | 10 => ("OpcodeForgeModel", "names", "[I", true)
  | 11 => ("OpcodeForgeModel", "nameSizes", "[I", true)
  | 12 => ("OpcodeForgeModel", "nameValues", "[I", true)
  | 13 => ("OpcodeForgeModel", "nameCount", "I", false)
  | 14 => ("OpcodeForgeModel", "waits", "[I", true)
  | 15 => ("OpcodeForgeModel", "waitPlaces", "[I", true)
  | 16 => ("OpcodeForgeModel", "waiting", "I", false)
  | 17 => ("OpcodeForgeModel", "values", "[I", true)
  | 18 => ("OpcodeForgeModel", "valued", "I", false)
  | 19 => ("OpcodeForgeModel", "opens", "I", false)
  | 20 => ("OpcodeForgeModel", "here", "I", false)
  | 21 => ("OpcodeForgeModel", "origin", "I", false)
  | 22 => ("OpcodeForgeModel", "result", "I", false)
  | 23 => ("OpcodeForgeModel", "kinds", "[I", true)
  | 24 => ("OpcodeForgeModel", "which", "[I", true)
  | 25 => ("OpcodeForgeModel", "begins", "[I", true)
  | 26 => ("OpcodeForgeModel", "turned", "[Z", true)
  | 27 => ("OpcodeForgeModel", "bare", "[Z", true)
  | 28 => ("OpcodeForgeModel", "operands", "I", false)
  | 29 => ("OpcodeForgeModel", "front", "I", false)
  | 30 => ("OpcodeForgeModel", "middle", "I", false)
  | 31 => ("OpcodeForgeModel", "code", "I", false)
  | 32 => ("OpcodeForgeModel", "behindKind", "I", false)
  | 33 => ("OpcodeForgeModel", "behindOf", "I", false)
  | 34 => ("OpcodeForgeModel", "partKind", "I", false)
  | 35 => ("OpcodeForgeModel", "partOf", "I", false)
  | 36 => ("OpcodeForgeModel", "moved", "I", false)
  | 37 => ("OpcodeForgeModel", "memory", "[I", true)
  | 38 => ("OpcodeForgeModel", "draft", "[I", true)
  | 39 => ("OpcodeForgeModel", "putCount", "I", false)
  | 40 => ("OpcodeForgeModel", "firstPut", "I", false)
  | 41 => ("OpcodeForgeModel", "line", "I", false)
  | 42 => ("OpcodeForgeModel", "second", "Z", false)
  | 43 => ("OpcodeForgeModel", "done", "[Z", true)
  | 44 => ("OpcodeForgeModel", "elses", "[Z", true)
  | 45 => ("OpcodeForgeModel", "ifs", "I", false)
  | 46 => ("OpcodeForgeModel", "latestLine", "I", false)
  | 47 => ("OpcodeForgeModel", "latestPlace", "I", false)
  | 48 => ("OpcodeForgeModel", "latestLines", "I", false)
  | 49 => ("OpcodeForgeModel", "latestFirst", "I", false)
  | 50 => ("OpcodeForgeModel", "latestEnd", "I", false)
  | 51 => ("OpcodeForgeModel", "labels", "I", false)
  | 52 => ("OpcodeForgeModel", "labelNames", "[I", true)
  | 53 => ("OpcodeForgeModel", "labelSizes", "[I", true)
  | 54 => ("OpcodeForgeModel", "labelValues", "[I", true)
  | 55 => ("OpcodeForgeModel", "laidPart", "I", false)
  | 56 => ("OpcodeForgeModel", "laidMoved", "I", false)
  | 57 => ("OpcodeForgeModel", "laidBehind", "I", false)
  | 58 => ("OpcodeForgeModel", "skipTo", "I", false)
  | 59 => ("OpcodeForgeModel", "is203", "I", false)
  | 60 => ("OpcodeForgeModel", "index", "I", false)
  | 61 => ("OpcodeForgeModel", "op", "I", false)
  | 62 => ("OpcodeForgeModel", "distance", "I", false)
  | 63 => ("OpcodeForgeModel", "length", "I", false)
  | 64 => ("OpcodeForgeModel", "operandAt", "I", false)
  | 65 => ("OpcodeForgeModel", "written", "[I", true)
  | 66 => ("OpcodeForgeModel", "writtenSize", "I", false)
  | 67 => ("OpcodeForgeModel", "shown", "[I", true)
  | 68 => ("OpcodeForgeModel", "shownSize", "I", false)
  | 69 => ("OpcodeForgeModel", "lines", "[I", true)
  | 70 => ("OpcodeForgeModel", "\x72", "[I", true)
  | 71 => ("OpcodeForgeModel", "other", "[I", true)
  | 72 => ("OpcodeForgeModel", "halfI", "I", false)
  | 73 => ("OpcodeForgeModel", "halfR", "I", false)
  | 74 => ("OpcodeForgeModel", "indexes", "[I", true)
  | 75 => ("OpcodeForgeModel", "sp", "I", false)
  | 76 => ("OpcodeForgeModel", "pc", "I", false)
  | 77 => ("OpcodeForgeModel", "latch1", "I", false)
  | 78 => ("OpcodeForgeModel", "latch2", "I", false)
  | 79 => ("OpcodeForgeModel", "mode", "I", false)
  | 80 => ("OpcodeForgeModel", "comes", "[I", true)
  | 81 => ("OpcodeForgeModel", "went", "[I", true)
  | 82 => ("OpcodeForgeModel", "hard", "Z", false)
  | 83 => ("OpcodeForgeModel", "plainWaits", "Z", false)
  | 84 => ("OpcodeForgeModel", "plainValue", "I", false)
  | 85 => ("OpcodeForgeModel", "justEnabled", "Z", false)
  | _ => ("OpcodeForgeModel", "outCount", "J", false)
def tyX8 : Nat → FieldType := fun k => match k with
  | 0 => .array .int
  | 1 => .int
  | 2 => .int
  | 3 => .int
  | 4 => .int
  | 5 => .int
  | 6 => .int
  | 7 => .long
  | 8 => .int
  | 9 => .int
  | 10 => .array .int
  | 11 => .array .int
  | 12 => .array .int
  | 13 => .int
  | 14 => .array .int
  | 15 => .array .int
  | 16 => .int
  | 17 => .array .int
  | 18 => .int
  | 19 => .int
  | 20 => .int
  | 21 => .int
  | 22 => .int
  | 23 => .array .int
  | 24 => .array .int
  | 25 => .array .int
  | 26 => .array .boolean
  | 27 => .array .boolean
  | 28 => .int
  | 29 => .int
  | 30 => .int
  | 31 => .int
  | 32 => .int
  | 33 => .int
  | 34 => .int
  | 35 => .int
  | 36 => .int
  | 37 => .array .int
  | 38 => .array .int
  | 39 => .int
  | 40 => .int
  | 41 => .int
  | 42 => .boolean
  | 43 => .array .boolean
  | 44 => .array .boolean
  | 45 => .int
  | 46 => .int
  | 47 => .int
  | 48 => .int
  | 49 => .int
  | 50 => .int
  | 51 => .int
  | 52 => .array .int
  | 53 => .array .int
  | 54 => .array .int
  | 55 => .int
  | 56 => .int
  | 57 => .int
  | 58 => .int
  | 59 => .int
  | 60 => .int
  | 61 => .int
  | 62 => .int
  | 63 => .int
  | 64 => .int
  | 65 => .array .int
  | 66 => .int
  | 67 => .array .int
  | 68 => .int
  | 69 => .array .int
  | 70 => .array .int
  | 71 => .array .int
  | 72 => .int
  | 73 => .int
  | 74 => .array .int
  | 75 => .int
  | 76 => .int
  | 77 => .int
  | 78 => .int
  | 79 => .int
  | 80 => .array .int
  | 81 => .array .int
  | 82 => .boolean
  | 83 => .boolean
  | 84 => .int
  | 85 => .boolean
  | _ => .long
abbrev wsX80 : List Cond := u_ws RX8 TX8 87
theorem nmX8 : ∀ a, a < 87 → ∀ b, b < 87 → a ≠ b → (TX8 a).2.1 ≠ (TX8 b).2.1 := by decide +kernel
theorem tyX8_ok : ∀ k, k < 87 → parseFieldDescriptor (TX8 k).2.2.1 = some (tyX8 k) := by decide +kernel
abbrev cX8_init : ByteArray := prog_12_method_1_code
def yX8_init : MethodName := ⟨RX8, "<init>", "()V"⟩
abbrev cX8_feed : ByteArray := prog_12_method_2_code
def yX8_feed : MethodName := ⟨RX8, "feed", "(JI)I"⟩
abbrev cX8_sourceAt : ByteArray := prog_12_method_3_code
def yX8_sourceAt : MethodName := ⟨RX8, "sourceAt", "(I)I"⟩
abbrev cX8_forge : ByteArray := prog_12_method_75_code
def yX8_forge : MethodName := ⟨RX8, "forge", "()I"⟩
abbrev cX8_pass : ByteArray := prog_12_method_61_code
def yX8_pass : MethodName := ⟨RX8, "pass", "()Z"⟩
abbrev cX8_wrong : ByteArray := prog_12_method_4_code
def yX8_wrong : MethodName := ⟨RX8, "wrong", "(II)Z"⟩
abbrev cX8_readLine : ByteArray := prog_12_method_62_code
def yX8_readLine : MethodName := ⟨RX8, "readLine", "()Z"⟩
abbrev cX8_isDone : ByteArray := prog_12_method_60_code
def yX8_isDone : MethodName := ⟨RX8, "isDone", "()Z"⟩
abbrev cX8_skipLine : ByteArray := prog_12_method_74_code
def yX8_skipLine : MethodName := ⟨RX8, "skipLine", "()Z"⟩
abbrev cX8_anyName : ByteArray := prog_12_method_73_code
def yX8_anyName : MethodName := ⟨RX8, "anyName", "()J"⟩
abbrev cX8_byteAt : ByteArray := prog_12_method_6_code
def yX8_byteAt : MethodName := ⟨RX8, "byteAt", "(I)I"⟩
abbrev cX8_isBlank : ByteArray := prog_12_method_10_code
def yX8_isBlank : MethodName := ⟨RX8, "isBlank", "(I)Z"⟩
abbrev cX8_isStart : ByteArray := prog_12_method_9_code
def yX8_isStart : MethodName := ⟨RX8, "isStart", "(I)Z"⟩
abbrev cX8_capital : ByteArray := prog_12_method_7_code
def yX8_capital : MethodName := ⟨RX8, "capital", "(I)I"⟩
abbrev cX8_isDigit : ByteArray := prog_12_method_8_code
def yX8_isDigit : MethodName := ⟨RX8, "isDigit", "(I)Z"⟩
abbrev cX8_turn : ByteArray := prog_12_method_70_code
def yX8_turn : MethodName := ⟨RX8, "turn", "(IJZ)Z"⟩
abbrev cX8_refuse : ByteArray := prog_12_method_5_code
def yX8_refuse : MethodName := ⟨RX8, "refuse", "()Z"⟩
abbrev cX8_next : ByteArray := prog_12_method_11_code
def yX8_next : MethodName := ⟨RX8, "next", "()V"⟩
abbrev cX8_name : ByteArray := prog_12_method_12_code
def yX8_name : MethodName := ⟨RX8, "name", "()V"⟩
abbrev cX8_digits : ByteArray := prog_12_method_14_code
def yX8_digits : MethodName := ⟨RX8, "digits", "(II)V"⟩
abbrev cX8_worth : ByteArray := prog_12_method_13_code
def yX8_worth : MethodName := ⟨RX8, "worth", "(I)I"⟩
abbrev cX8_readSign : ByteArray := prog_12_method_15_code
def yX8_readSign : MethodName := ⟨RX8, "readSign", "(I)V"⟩
abbrev cX8_isSign : ByteArray := prog_12_method_16_code
def yX8_isSign : MethodName := ⟨RX8, "isSign", "(I)Z"⟩
abbrev cX8_tell : ByteArray := prog_12_method_63_code
def yX8_tell : MethodName := ⟨RX8, "tell", "(IIJI)Z"⟩
abbrev cX8_isReserved : ByteArray := prog_12_method_21_code
def yX8_isReserved : MethodName := ⟨RX8, "isReserved", "(J)Z"⟩
abbrev cX8_isRegister : ByteArray := prog_12_method_20_code
def yX8_isRegister : MethodName := ⟨RX8, "isRegister", "(J)Z"⟩
abbrev cX8_isStatement : ByteArray := prog_12_method_22_code
def yX8_isStatement : MethodName := ⟨RX8, "isStatement", "(J)Z"⟩
abbrev cX8_plain : ByteArray := prog_12_method_24_code
def yX8_plain : MethodName := ⟨RX8, "plain", "(J)I"⟩
abbrev cX8_isMany : ByteArray := prog_12_method_23_code
def yX8_isMany : MethodName := ⟨RX8, "isMany", "(J)Z"⟩
abbrev cX8_find : ByteArray := prog_12_method_18_code
def yX8_find : MethodName := ⟨RX8, "find", "(II)I"⟩
abbrev cX8_addName : ByteArray := prog_12_method_19_code
def yX8_addName : MethodName := ⟨RX8, "addName", "(III)V"⟩
abbrev cX8_equal : ByteArray := prog_12_method_64_code
def yX8_equal : MethodName := ⟨RX8, "equal", "(IIJ)Z"⟩
abbrev cX8_expression : ByteArray := prog_12_method_28_code
def yX8_expression : MethodName := ⟨RX8, "expression", "(Z)Z"⟩
abbrev cX8_push : ByteArray := prog_12_method_26_code
def yX8_push : MethodName := ⟨RX8, "push", "(I)V"⟩
abbrev cX8_operand : ByteArray := prog_12_method_29_code
def yX8_operand : MethodName := ⟨RX8, "operand", "(Z)Z"⟩
abbrev cX8_unaries : ByteArray := prog_12_method_30_code
def yX8_unaries : MethodName := ⟨RX8, "unaries", "(Z)Z"⟩
abbrev cX8_apply : ByteArray := prog_12_method_27_code
def yX8_apply : MethodName := ⟨RX8, "apply", "(Z)Z"⟩
abbrev cX8_behind : ByteArray := prog_12_method_31_code
def yX8_behind : MethodName := ⟨RX8, "behind", "(Z)Z"⟩
abbrev cX8_rank : ByteArray := prog_12_method_25_code
def yX8_rank : MethodName := ⟨RX8, "rank", "(I)I"⟩
abbrev cX8_statement : ByteArray := prog_12_method_65_code
def yX8_statement : MethodName := ⟨RX8, "statement", "(IJ)Z"⟩
abbrev cX8_directive : ByteArray := prog_12_method_69_code
def yX8_directive : MethodName := ⟨RX8, "directive", "(IJ)Z"⟩
abbrev cX8_data : ByteArray := prog_12_method_71_code
def yX8_data : MethodName := ⟨RX8, "data", "(IZ)Z"⟩
abbrev cX8_lay : ByteArray := prog_12_method_59_code
def yX8_lay : MethodName := ⟨RX8, "lay", "(I)V"⟩
abbrev cX8_space : ByteArray := prog_12_method_72_code
def yX8_space : MethodName := ⟨RX8, "space", "(I)Z"⟩
abbrev cX8_readOperands : ByteArray := prog_12_method_41_code
def yX8_readOperands : MethodName := ⟨RX8, "readOperands", "()Z"⟩
abbrev cX8_readOperand : ByteArray := prog_12_method_38_code
def yX8_readOperand : MethodName := ⟨RX8, "readOperand", "()Z"⟩
abbrev cX8_isPlace : ByteArray := prog_12_method_37_code
def yX8_isPlace : MethodName := ⟨RX8, "isPlace", "()Z"⟩
abbrev cX8_endsOperand : ByteArray := prog_12_method_36_code
def yX8_endsOperand : MethodName := ⟨RX8, "endsOperand", "()Z"⟩
abbrev cX8_goTo : ByteArray := prog_12_method_17_code
def yX8_goTo : MethodName := ⟨RX8, "goTo", "(I)V"⟩
abbrev cX8_readPlace : ByteArray := prog_12_method_40_code
def yX8_readPlace : MethodName := ⟨RX8, "readPlace", "(I)Z"⟩
abbrev cX8_index : ByteArray := prog_12_method_34_code
def yX8_index : MethodName := ⟨RX8, "index", "(J)I"⟩
abbrev cX8_setRegister : ByteArray := prog_12_method_39_code
def yX8_setRegister : MethodName := ⟨RX8, "setRegister", "(IJ)V"⟩
abbrev cX8_register8 : ByteArray := prog_12_method_32_code
def yX8_register8 : MethodName := ⟨RX8, "register8", "(J)I"⟩
abbrev cX8_pair : ByteArray := prog_12_method_33_code
def yX8_pair : MethodName := ⟨RX8, "pair", "(J)I"⟩
abbrev cX8_condition : ByteArray := prog_12_method_35_code
def yX8_condition : MethodName := ⟨RX8, "condition", "(J)I"⟩
abbrev cX8_encode : ByteArray := prog_12_method_51_code
def yX8_encode : MethodName := ⟨RX8, "encode", "(J)Z"⟩
abbrev cX8_give : ByteArray := prog_12_method_42_code
def yX8_give : MethodName := ⟨RX8, "give", "(III)Z"⟩
abbrev cX8_conditionOf : ByteArray := prog_12_method_50_code
def yX8_conditionOf : MethodName := ⟨RX8, "conditionOf", "(I)I"⟩
abbrev cX8_encodeOne : ByteArray := prog_12_method_54_code
def yX8_encodeOne : MethodName := ⟨RX8, "encodeOne", "(J)Z"⟩
abbrev cX8_octetOf : ByteArray := prog_12_method_48_code
def yX8_octetOf : MethodName := ⟨RX8, "octetOf", "(I)I"⟩
abbrev cX8_is : ByteArray := prog_12_method_44_code
def yX8_is : MethodName := ⟨RX8, "is", "(II)Z"⟩
abbrev cX8_frontOf : ByteArray := prog_12_method_47_code
def yX8_frontOf : MethodName := ⟨RX8, "frontOf", "(I)I"⟩
abbrev cX8_giveOctet : ByteArray := prog_12_method_49_code
def yX8_giveOctet : MethodName := ⟨RX8, "giveOctet", "(III)Z"⟩
abbrev cX8_alone : ByteArray := prog_12_method_53_code
def yX8_alone : MethodName := ⟨RX8, "alone", "(J)I"⟩
abbrev cX8_giveWith : ByteArray := prog_12_method_43_code
def yX8_giveWith : MethodName := ⟨RX8, "giveWith", "(IIIII)Z"⟩
abbrev cX8_shiftOf : ByteArray := prog_12_method_52_code
def yX8_shiftOf : MethodName := ⟨RX8, "shiftOf", "(J)I"⟩
abbrev cX8_encodeTwo : ByteArray := prog_12_method_55_code
def yX8_encodeTwo : MethodName := ⟨RX8, "encodeTwo", "(J)Z"⟩
abbrev cX8_encodeLoad : ByteArray := prog_12_method_57_code
def yX8_encodeLoad : MethodName := ⟨RX8, "encodeLoad", "()Z"⟩
abbrev cX8_isHL : ByteArray := prog_12_method_46_code
def yX8_isHL : MethodName := ⟨RX8, "isHL", "(I)Z"⟩
abbrev cX8_isA : ByteArray := prog_12_method_45_code
def yX8_isA : MethodName := ⟨RX8, "isA", "(I)Z"⟩
abbrev cX8_encodeSum : ByteArray := prog_12_method_56_code
def yX8_encodeSum : MethodName := ⟨RX8, "encodeSum", "(J)Z"⟩
abbrev cX8_lengthOf : ByteArray := prog_12_method_58_code
def yX8_lengthOf : MethodName := ⟨RX8, "lengthOf", "()I"⟩
abbrev cX8_layInstruction : ByteArray := prog_12_method_68_code
def yX8_layInstruction : MethodName := ⟨RX8, "layInstruction", "(I)Z"⟩
abbrev cX8_work : ByteArray := prog_12_method_67_code
def yX8_work : MethodName := ⟨RX8, "work", "(II)Z"⟩
abbrev cX8_expValue : ByteArray := prog_12_method_66_code
def yX8_expValue : MethodName := ⟨RX8, "expValue", "(I)I"⟩
abbrev cX8_told : ByteArray := prog_12_method_76_code
def yX8_told : MethodName := ⟨RX8, "told", "(I)I"⟩
abbrev cX8_label : ByteArray := prog_12_method_77_code
def yX8_label : MethodName := ⟨RX8, "label", "(I)I"⟩
abbrev cX8_labelSign : ByteArray := prog_12_method_78_code
def yX8_labelSign : MethodName := ⟨RX8, "labelSign", "(II)I"⟩
abbrev cX8_write : ByteArray := prog_12_method_107_code
def yX8_write : MethodName := ⟨RX8, "write", "(I)I"⟩
abbrev cX8_writeAt : ByteArray := prog_12_method_106_code
def yX8_writeAt : MethodName := ⟨RX8, "writeAt", "(I)I"⟩
abbrev cX8_decode : ByteArray := prog_12_method_86_code
def yX8_decode : MethodName := ⟨RX8, "decode", "(I)Z"⟩
abbrev cX8_peek : ByteArray := prog_12_method_79_code
def yX8_peek : MethodName := ⟨RX8, "peek", "(I)I"⟩
abbrev cX8_plainLength : ByteArray := prog_12_method_82_code
def yX8_plainLength : MethodName := ⟨RX8, "plainLength", "(I)I"⟩
abbrev cX8_isBehind237 : ByteArray := prog_12_method_85_code
def yX8_isBehind237 : MethodName := ⟨RX8, "isBehind237", "(I)Z"⟩
abbrev cX8_signed : ByteArray := prog_12_method_81_code
def yX8_signed : MethodName := ⟨RX8, "signed", "(I)I"⟩
abbrev cX8_hasPlace : ByteArray := prog_12_method_83_code
def yX8_hasPlace : MethodName := ⟨RX8, "hasPlace", "(I)Z"⟩
abbrev cX8_hasHL : ByteArray := prog_12_method_84_code
def yX8_hasHL : MethodName := ⟨RX8, "hasHL", "(I)Z"⟩
abbrev cX8_say : ByteArray := prog_12_method_88_code
def yX8_say : MethodName := ⟨RX8, "say", "(J)V"⟩
abbrev cX8_one : ByteArray := prog_12_method_87_code
def yX8_one : MethodName := ⟨RX8, "one", "(I)V"⟩
abbrev cX8_number : ByteArray := prog_12_method_89_code
def yX8_number : MethodName := ⟨RX8, "number", "(I)V"⟩
abbrev cX8_write203 : ByteArray := prog_12_method_105_code
def yX8_write203 : MethodName := ⟨RX8, "write203", "()V"⟩
abbrev cX8_octetName : ByteArray := prog_12_method_92_code
def yX8_octetName : MethodName := ⟨RX8, "octetName", "(I)V"⟩
abbrev cX8_place : ByteArray := prog_12_method_90_code
def yX8_place : MethodName := ⟨RX8, "place", "()V"⟩
abbrev cX8_indexName : ByteArray := prog_12_method_91_code
def yX8_indexName : MethodName := ⟨RX8, "indexName", "()V"⟩
abbrev cX8_write237 : ByteArray := prog_12_method_104_code
def yX8_write237 : MethodName := ⟨RX8, "write237", "()V"⟩
abbrev cX8_pairName : ByteArray := prog_12_method_93_code
def yX8_pairName : MethodName := ⟨RX8, "pairName", "(IZ)V"⟩
abbrev cX8_placeM : ByteArray := prog_12_method_97_code
def yX8_placeM : MethodName := ⟨RX8, "placeM", "()V"⟩
abbrev cX8_m : ByteArray := prog_12_method_96_code
def yX8_m : MethodName := ⟨RX8, "m", "()V"⟩
abbrev cX8_wide : ByteArray := prog_12_method_80_code
def yX8_wide : MethodName := ⟨RX8, "wide", "(I)I"⟩
abbrev cX8_writeFirst : ByteArray := prog_12_method_100_code
def yX8_writeFirst : MethodName := ⟨RX8, "writeFirst", "(I)V"⟩
abbrev cX8_conditionName : ByteArray := prog_12_method_94_code
def yX8_conditionName : MethodName := ⟨RX8, "conditionName", "(I)V"⟩
abbrev cX8_near : ByteArray := prog_12_method_99_code
def yX8_near : MethodName := ⟨RX8, "near", "(I)V"⟩
abbrev cX8_writeLoad : ByteArray := prog_12_method_101_code
def yX8_writeLoad : MethodName := ⟨RX8, "writeLoad", "(I)V"⟩
abbrev cX8_n : ByteArray := prog_12_method_98_code
def yX8_n : MethodName := ⟨RX8, "n", "()V"⟩
abbrev cX8_writeLast : ByteArray := prog_12_method_102_code
def yX8_writeLast : MethodName := ⟨RX8, "writeLast", "()V"⟩
abbrev cX8_writeThird : ByteArray := prog_12_method_103_code
def yX8_writeThird : MethodName := ⟨RX8, "writeThird", "(I)V"⟩
abbrev cX8_sumName : ByteArray := prog_12_method_95_code
def yX8_sumName : MethodName := ⟨RX8, "sumName", "(I)V"⟩
abbrev cX8_sign : ByteArray := prog_12_method_108_code
def yX8_sign : MethodName := ⟨RX8, "sign", "(I)I"⟩
abbrev cX8_source : ByteArray := prog_12_method_109_code
def yX8_source : MethodName := ⟨RX8, "source", "(II)I"⟩
abbrev cX8_octet : ByteArray := prog_12_method_110_code
def yX8_octet : MethodName := ⟨RX8, "octet", "(I)I"⟩
abbrev cX8_put : ByteArray := prog_12_method_111_code
def yX8_put : MethodName := ⟨RX8, "put", "(II)I"⟩
abbrev cX8_clear : ByteArray := prog_12_method_112_code
def yX8_clear : MethodName := ⟨RX8, "clear", "()V"⟩
abbrev cX8_register : ByteArray := prog_12_method_116_code
def yX8_register : MethodName := ⟨RX8, "register", "(I)I"⟩
abbrev cX8_at : ByteArray := prog_12_method_115_code
def yX8_at : MethodName := ⟨RX8, "at", "(I)I"⟩
abbrev cX8_two : ByteArray := prog_12_method_113_code
def yX8_two : MethodName := ⟨RX8, "two", "(I)I"⟩
abbrev cX8_set : ByteArray := prog_12_method_117_code
def yX8_set : MethodName := ⟨RX8, "set", "(II)I"⟩
abbrev cX8_setTwo : ByteArray := prog_12_method_114_code
def yX8_setTwo : MethodName := ⟨RX8, "setTwo", "(II)V"⟩
abbrev cX8_port : ByteArray := prog_12_method_118_code
def yX8_port : MethodName := ⟨RX8, "port", "(II)I"⟩
abbrev cX8_out : ByteArray := prog_12_method_119_code
def yX8_out : MethodName := ⟨RX8, "out", "(I)I"⟩
abbrev cX8_outs : ByteArray := prog_12_method_120_code
def yX8_outs : MethodName := ⟨RX8, "outs", "()J"⟩
abbrev cX8_request : ByteArray := prog_12_method_121_code
def yX8_request : MethodName := ⟨RX8, "request", "(II)I"⟩
abbrev cX8_step : ByteArray := prog_12_method_143_code
def yX8_step : MethodName := ⟨RX8, "step", "()I"⟩
abbrev cX8_takeRequest : ByteArray := prog_12_method_142_code
def yX8_takeRequest : MethodName := ⟨RX8, "takeRequest", "()Z"⟩
abbrev cX8_goOn : ByteArray := prog_12_method_126_code
def yX8_goOn : MethodName := ⟨RX8, "goOn", "(I)V"⟩
abbrev cX8_pushTwo : ByteArray := prog_12_method_123_code
def yX8_pushTwo : MethodName := ⟨RX8, "pushTwo", "(I)V"⟩
abbrev cX8_store : ByteArray := prog_12_method_122_code
def yX8_store : MethodName := ⟨RX8, "store", "(II)V"⟩
abbrev cX8_do203 : ByteArray := prog_12_method_145_code
def yX8_do203 : MethodName := ⟨RX8, "do203", "()V"⟩
abbrev cX8_octetAt : ByteArray := prog_12_method_137_code
def yX8_octetAt : MethodName := ⟨RX8, "octetAt", "(I)I"⟩
abbrev cX8_placeAt : ByteArray := prog_12_method_136_code
def yX8_placeAt : MethodName := ⟨RX8, "placeAt", "()I"⟩
abbrev cX8_turned : ByteArray := prog_12_method_133_code
def yX8_turned : MethodName := ⟨RX8, "turned", "(II)I"⟩
abbrev cX8_signs : ByteArray := prog_12_method_128_code
def yX8_signs : MethodName := ⟨RX8, "signs", "(I)I"⟩
abbrev cX8_parity : ByteArray := prog_12_method_127_code
def yX8_parity : MethodName := ⟨RX8, "parity", "(I)I"⟩
abbrev cX8_setOctet : ByteArray := prog_12_method_138_code
def yX8_setOctet : MethodName := ⟨RX8, "setOctet", "(II)V"⟩
abbrev cX8_do237 : ByteArray := prog_12_method_156_code
def yX8_do237 : MethodName := ⟨RX8, "do237", "(I)V"⟩
abbrev cX8_doBlock : ByteArray := prog_12_method_159_code
def yX8_doBlock : MethodName := ⟨RX8, "doBlock", "(III)V"⟩
abbrev cX8_difference : ByteArray := prog_12_method_130_code
def yX8_difference : MethodName := ⟨RX8, "difference", "(III)I"⟩
abbrev cX8_portFlags : ByteArray := prog_12_method_160_code
def yX8_portFlags : MethodName := ⟨RX8, "portFlags", "(II)V"⟩
abbrev cX8_outPort : ByteArray := prog_12_method_125_code
def yX8_outPort : MethodName := ⟨RX8, "outPort", "(II)V"⟩
abbrev cX8_pairAt : ByteArray := prog_12_method_139_code
def yX8_pairAt : MethodName := ⟨RX8, "pairAt", "(I)I"⟩
abbrev cX8_base : ByteArray := prog_12_method_134_code
def yX8_base : MethodName := ⟨RX8, "base", "()I"⟩
abbrev cX8_wideSum : ByteArray := prog_12_method_157_code
def yX8_wideSum : MethodName := ⟨RX8, "wideSum", "(IZ)V"⟩
abbrev cX8_setPair : ByteArray := prog_12_method_140_code
def yX8_setPair : MethodName := ⟨RX8, "setPair", "(II)V"⟩
abbrev cX8_setBase : ByteArray := prog_12_method_135_code
def yX8_setBase : MethodName := ⟨RX8, "setBase", "(I)V"⟩
abbrev cX8_popTwo : ByteArray := prog_12_method_124_code
def yX8_popTwo : MethodName := ⟨RX8, "popTwo", "()I"⟩
abbrev cX8_doHalves : ByteArray := prog_12_method_158_code
def yX8_doHalves : MethodName := ⟨RX8, "doHalves", "(I)V"⟩
abbrev cX8_doFirst : ByteArray := prog_12_method_146_code
def yX8_doFirst : MethodName := ⟨RX8, "doFirst", "()V"⟩
abbrev cX8_doNear : ByteArray := prog_12_method_148_code
def yX8_doNear : MethodName := ⟨RX8, "doNear", "(I)V"⟩
abbrev cX8_exchange : ByteArray := prog_12_method_147_code
def yX8_exchange : MethodName := ⟨RX8, "exchange", "(I)V"⟩
abbrev cX8_holds : ByteArray := prog_12_method_141_code
def yX8_holds : MethodName := ⟨RX8, "holds", "(I)Z"⟩
abbrev cX8_addPair : ByteArray := prog_12_method_149_code
def yX8_addPair : MethodName := ⟨RX8, "addPair", "(I)V"⟩
abbrev cX8_doLoad : ByteArray := prog_12_method_150_code
def yX8_doLoad : MethodName := ⟨RX8, "doLoad", "(I)V"⟩
abbrev cX8_stepUp : ByteArray := prog_12_method_132_code
def yX8_stepUp : MethodName := ⟨RX8, "stepUp", "(IZ)I"⟩
abbrev cX8_sum : ByteArray := prog_12_method_129_code
def yX8_sum : MethodName := ⟨RX8, "sum", "(III)I"⟩
abbrev cX8_doAlone : ByteArray := prog_12_method_151_code
def yX8_doAlone : MethodName := ⟨RX8, "doAlone", "(I)V"⟩
abbrev cX8_adjust : ByteArray := prog_12_method_152_code
def yX8_adjust : MethodName := ⟨RX8, "adjust", "()V"⟩
abbrev cX8_reckon : ByteArray := prog_12_method_131_code
def yX8_reckon : MethodName := ⟨RX8, "reckon", "(II)V"⟩
abbrev cX8_doLast : ByteArray := prog_12_method_153_code
def yX8_doLast : MethodName := ⟨RX8, "doLast", "()V"⟩
abbrev cX8_doReturns : ByteArray := prog_12_method_154_code
def yX8_doReturns : MethodName := ⟨RX8, "doReturns", "(IZ)V"⟩
abbrev cX8_doThird : ByteArray := prog_12_method_155_code
def yX8_doThird : MethodName := ⟨RX8, "doThird", "(I)V"⟩
abbrev cX8_run : ByteArray := prog_12_method_144_code
def yX8_run : MethodName := ⟨RX8, "run", "(I)I"⟩
theorem q272 : (Jvm.Cond.initialized "OpcodeForgeModel") ∈ lw_all := lw_g (lw_at lw_m1 9 rfl) rfl
theorem q1764 : (Jvm.Cond.instantiable "OpcodeForgeModel" (87 : Nat)) ∈ lw_all := lw_g (lw_at lw_m7 61 rfl) rfl
theorem q1766 : (Jvm.Cond.instanceMethod ({ cls := "OpcodeForgeModel", name := "<init>", desc := "()V" } : Jvm.MethodName)) ∈ lw_all := lw_g (lw_at lw_m7 63 rfl) rfl
theorem q1767 : (Jvm.Cond.code ({ cls := "OpcodeForgeModel", name := "<init>", desc := "()V" } : Jvm.MethodName) prog_12_method_1_code (1 : Nat) (Option.none : Option Jvm.ClassFile.FieldType)) ∈ lw_all := lw_g (lw_at lw_m7 64 rfl) rfl
theorem q1768 : (Jvm.Cond.methodLink "OpcodeForgeModel" (1 : Nat) ({ cls := "java/lang/Object", name := "<init>", desc := "()V" } : Jvm.MethodName)) ∈ lw_all := lw_g (lw_at lw_m7 65 rfl) rfl
theorem q1769 : (Jvm.Cond.constant "OpcodeForgeModel" (47 : Nat) (65536 : Int32)) ∈ lw_all := lw_g (lw_at lw_m7 66 rfl) rfl
theorem q1770 : (Jvm.Cond.constant "OpcodeForgeModel" (87 : Nat) (65535 : Int32)) ∈ lw_all := lw_g (lw_at lw_m7 67 rfl) rfl
theorem q1771 : (Jvm.Cond.fieldLink "OpcodeForgeModel" (7 : Nat) "OpcodeForgeModel" "source" "[I") ∈ lw_all := lw_g (lw_at lw_m7 68 rfl) rfl
theorem q1772 : (Jvm.Cond.fieldLink "OpcodeForgeModel" (98 : Nat) "OpcodeForgeModel" "size" "I") ∈ lw_all := lw_g (lw_at lw_m7 69 rfl) rfl
theorem q1773 : (Jvm.Cond.fieldLink "OpcodeForgeModel" (123 : Nat) "OpcodeForgeModel" "at" "I") ∈ lw_all := lw_g (lw_at lw_m7 70 rfl) rfl
theorem q1774 : (Jvm.Cond.fieldLink "OpcodeForgeModel" (109 : Nat) "OpcodeForgeModel" "kind" "I") ∈ lw_all := lw_g (lw_at lw_m7 71 rfl) rfl
theorem q1775 : (Jvm.Cond.fieldLink "OpcodeForgeModel" (112 : Nat) "OpcodeForgeModel" "place" "I") ∈ lw_all := lw_g (lw_at lw_m7 72 rfl) rfl
theorem q1776 : (Jvm.Cond.fieldLink "OpcodeForgeModel" (157 : Nat) "OpcodeForgeModel" "stop" "I") ∈ lw_all := lw_g (lw_at lw_m7 73 rfl) rfl
theorem q1777 : (Jvm.Cond.fieldLink "OpcodeForgeModel" (150 : Nat) "OpcodeForgeModel" "value" "I") ∈ lw_all := lw_g (lw_at lw_m7 74 rfl) rfl
theorem q1778 : (Jvm.Cond.fieldLink "OpcodeForgeModel" (133 : Nat) "OpcodeForgeModel" "word" "J") ∈ lw_all := lw_g (lw_at lw_m7 75 rfl) rfl
theorem q1779 : (Jvm.Cond.fieldLink "OpcodeForgeModel" (103 : Nat) "OpcodeForgeModel" "fault" "I") ∈ lw_all := lw_g (lw_at lw_m7 76 rfl) rfl
theorem q1780 : (Jvm.Cond.fieldLink "OpcodeForgeModel" (106 : Nat) "OpcodeForgeModel" "faultPlace" "I") ∈ lw_all := lw_g (lw_at lw_m7 77 rfl) rfl
theorem q1781 : (Jvm.Cond.fieldLink "OpcodeForgeModel" (13 : Nat) "OpcodeForgeModel" "names" "[I") ∈ lw_all := lw_g (lw_at lw_m7 78 rfl) rfl
theorem q1782 : (Jvm.Cond.fieldLink "OpcodeForgeModel" (16 : Nat) "OpcodeForgeModel" "nameSizes" "[I") ∈ lw_all := lw_g (lw_at lw_m7 79 rfl) rfl
theorem q1783 : (Jvm.Cond.fieldLink "OpcodeForgeModel" (19 : Nat) "OpcodeForgeModel" "nameValues" "[I") ∈ lw_all := lw_g (lw_at lw_m7 80 rfl) rfl
theorem q1784 : (Jvm.Cond.fieldLink "OpcodeForgeModel" (170 : Nat) "OpcodeForgeModel" "nameCount" "I") ∈ lw_all := lw_g (lw_at lw_m7 81 rfl) rfl
theorem q1785 : (Jvm.Cond.fieldLink "OpcodeForgeModel" (22 : Nat) "OpcodeForgeModel" "waits" "[I") ∈ lw_all := lw_g (lw_at lw_m7 82 rfl) rfl
theorem q1786 : (Jvm.Cond.fieldLink "OpcodeForgeModel" (25 : Nat) "OpcodeForgeModel" "waitPlaces" "[I") ∈ lw_all := lw_g (lw_at lw_m7 83 rfl) rfl
theorem q1787 : (Jvm.Cond.fieldLink "OpcodeForgeModel" (381 : Nat) "OpcodeForgeModel" "waiting" "I") ∈ lw_all := lw_g (lw_at lw_m7 84 rfl) rfl
theorem q1788 : (Jvm.Cond.fieldLink "OpcodeForgeModel" (28 : Nat) "OpcodeForgeModel" "values" "[I") ∈ lw_all := lw_g (lw_at lw_m7 85 rfl) rfl
theorem q1789 : (Jvm.Cond.fieldLink "OpcodeForgeModel" (387 : Nat) "OpcodeForgeModel" "valued" "I") ∈ lw_all := lw_g (lw_at lw_m7 86 rfl) rfl
theorem q1790 : (Jvm.Cond.fieldLink "OpcodeForgeModel" (384 : Nat) "OpcodeForgeModel" "opens" "I") ∈ lw_all := lw_g (lw_at lw_m7 87 rfl) rfl
theorem q1791 : (Jvm.Cond.fieldLink "OpcodeForgeModel" (537 : Nat) "OpcodeForgeModel" "here" "I") ∈ lw_all := lw_g (lw_at lw_m7 88 rfl) rfl
theorem q1792 : (Jvm.Cond.fieldLink "OpcodeForgeModel" (413 : Nat) "OpcodeForgeModel" "origin" "I") ∈ lw_all := lw_g (lw_at lw_m7 89 rfl) rfl
theorem q1793 : (Jvm.Cond.fieldLink "OpcodeForgeModel" (410 : Nat) "OpcodeForgeModel" "result" "I") ∈ lw_all := lw_g (lw_at lw_m7 90 rfl) rfl
theorem q1794 : (Jvm.Cond.fieldLink "OpcodeForgeModel" (31 : Nat) "OpcodeForgeModel" "kinds" "[I") ∈ lw_all := lw_g (lw_at lw_m7 91 rfl) rfl
theorem q1795 : (Jvm.Cond.fieldLink "OpcodeForgeModel" (34 : Nat) "OpcodeForgeModel" "which" "[I") ∈ lw_all := lw_g (lw_at lw_m7 92 rfl) rfl
theorem q1796 : (Jvm.Cond.fieldLink "OpcodeForgeModel" (37 : Nat) "OpcodeForgeModel" "begins" "[I") ∈ lw_all := lw_g (lw_at lw_m7 93 rfl) rfl
theorem q1797 : (Jvm.Cond.fieldLink "OpcodeForgeModel" (40 : Nat) "OpcodeForgeModel" "turned" "[Z") ∈ lw_all := lw_g (lw_at lw_m7 94 rfl) rfl
theorem q1798 : (Jvm.Cond.fieldLink "OpcodeForgeModel" (44 : Nat) "OpcodeForgeModel" "bare" "[Z") ∈ lw_all := lw_g (lw_at lw_m7 95 rfl) rfl
theorem q1799 : (Jvm.Cond.fieldLink "OpcodeForgeModel" (435 : Nat) "OpcodeForgeModel" "operands" "I") ∈ lw_all := lw_g (lw_at lw_m7 96 rfl) rfl
theorem q1800 : (Jvm.Cond.fieldLink "OpcodeForgeModel" (466 : Nat) "OpcodeForgeModel" "front" "I") ∈ lw_all := lw_g (lw_at lw_m7 97 rfl) rfl
theorem q1801 : (Jvm.Cond.fieldLink "OpcodeForgeModel" (469 : Nat) "OpcodeForgeModel" "middle" "I") ∈ lw_all := lw_g (lw_at lw_m7 98 rfl) rfl
theorem q1802 : (Jvm.Cond.fieldLink "OpcodeForgeModel" (472 : Nat) "OpcodeForgeModel" "code" "I") ∈ lw_all := lw_g (lw_at lw_m7 99 rfl) rfl
theorem q1803 : (Jvm.Cond.fieldLink "OpcodeForgeModel" (475 : Nat) "OpcodeForgeModel" "behindKind" "I") ∈ lw_all := lw_g (lw_at lw_m7 100 rfl) rfl
theorem q1804 : (Jvm.Cond.fieldLink "OpcodeForgeModel" (478 : Nat) "OpcodeForgeModel" "behindOf" "I") ∈ lw_all := lw_g (lw_at lw_m7 101 rfl) rfl
theorem q1805 : (Jvm.Cond.fieldLink "OpcodeForgeModel" (491 : Nat) "OpcodeForgeModel" "partKind" "I") ∈ lw_all := lw_g (lw_at lw_m7 102 rfl) rfl
theorem q1806 : (Jvm.Cond.fieldLink "OpcodeForgeModel" (522 : Nat) "OpcodeForgeModel" "partOf" "I") ∈ lw_all := lw_g (lw_at lw_m7 103 rfl) rfl
theorem q1807 : (Jvm.Cond.fieldLink "OpcodeForgeModel" (485 : Nat) "OpcodeForgeModel" "moved" "I") ∈ lw_all := lw_g (lw_at lw_m7 104 rfl) rfl
theorem q1808 : (Jvm.Cond.fieldLink "OpcodeForgeModel" (48 : Nat) "OpcodeForgeModel" "memory" "[I") ∈ lw_all := lw_g (lw_at lw_m7 105 rfl) rfl
theorem q1809 : (Jvm.Cond.fieldLink "OpcodeForgeModel" (51 : Nat) "OpcodeForgeModel" "draft" "[I") ∈ lw_all := lw_g (lw_at lw_m7 106 rfl) rfl
theorem q1810 : (Jvm.Cond.fieldLink "OpcodeForgeModel" (540 : Nat) "OpcodeForgeModel" "putCount" "I") ∈ lw_all := lw_g (lw_at lw_m7 107 rfl) rfl
theorem q1811 : (Jvm.Cond.fieldLink "OpcodeForgeModel" (543 : Nat) "OpcodeForgeModel" "firstPut" "I") ∈ lw_all := lw_g (lw_at lw_m7 108 rfl) rfl
theorem q1812 : (Jvm.Cond.fieldLink "OpcodeForgeModel" (549 : Nat) "OpcodeForgeModel" "line" "I") ∈ lw_all := lw_g (lw_at lw_m7 109 rfl) rfl
theorem q1813 : (Jvm.Cond.fieldLink "OpcodeForgeModel" (573 : Nat) "OpcodeForgeModel" "second" "Z") ∈ lw_all := lw_g (lw_at lw_m7 110 rfl) rfl
theorem q1814 : (Jvm.Cond.fieldLink "OpcodeForgeModel" (54 : Nat) "OpcodeForgeModel" "done" "[Z") ∈ lw_all := lw_g (lw_at lw_m7 111 rfl) rfl
theorem q1815 : (Jvm.Cond.fieldLink "OpcodeForgeModel" (57 : Nat) "OpcodeForgeModel" "elses" "[Z") ∈ lw_all := lw_g (lw_at lw_m7 112 rfl) rfl
theorem q1816 : (Jvm.Cond.fieldLink "OpcodeForgeModel" (546 : Nat) "OpcodeForgeModel" "ifs" "I") ∈ lw_all := lw_g (lw_at lw_m7 113 rfl) rfl
theorem q1817 : (Jvm.Cond.fieldLink "OpcodeForgeModel" (633 : Nat) "OpcodeForgeModel" "latestLine" "I") ∈ lw_all := lw_g (lw_at lw_m7 114 rfl) rfl
theorem q1818 : (Jvm.Cond.fieldLink "OpcodeForgeModel" (636 : Nat) "OpcodeForgeModel" "latestPlace" "I") ∈ lw_all := lw_g (lw_at lw_m7 115 rfl) rfl
theorem q1819 : (Jvm.Cond.fieldLink "OpcodeForgeModel" (639 : Nat) "OpcodeForgeModel" "latestLines" "I") ∈ lw_all := lw_g (lw_at lw_m7 116 rfl) rfl
theorem q1820 : (Jvm.Cond.fieldLink "OpcodeForgeModel" (642 : Nat) "OpcodeForgeModel" "latestFirst" "I") ∈ lw_all := lw_g (lw_at lw_m7 117 rfl) rfl
theorem q1821 : (Jvm.Cond.fieldLink "OpcodeForgeModel" (645 : Nat) "OpcodeForgeModel" "latestEnd" "I") ∈ lw_all := lw_g (lw_at lw_m7 118 rfl) rfl
theorem q1822 : (Jvm.Cond.fieldLink "OpcodeForgeModel" (648 : Nat) "OpcodeForgeModel" "labels" "I") ∈ lw_all := lw_g (lw_at lw_m7 119 rfl) rfl
theorem q1823 : (Jvm.Cond.fieldLink "OpcodeForgeModel" (60 : Nat) "OpcodeForgeModel" "labelNames" "[I") ∈ lw_all := lw_g (lw_at lw_m7 120 rfl) rfl
theorem q1824 : (Jvm.Cond.fieldLink "OpcodeForgeModel" (63 : Nat) "OpcodeForgeModel" "labelSizes" "[I") ∈ lw_all := lw_g (lw_at lw_m7 121 rfl) rfl
theorem q1825 : (Jvm.Cond.fieldLink "OpcodeForgeModel" (66 : Nat) "OpcodeForgeModel" "labelValues" "[I") ∈ lw_all := lw_g (lw_at lw_m7 122 rfl) rfl
theorem q1826 : (Jvm.Cond.fieldLink "OpcodeForgeModel" (603 : Nat) "OpcodeForgeModel" "laidPart" "I") ∈ lw_all := lw_g (lw_at lw_m7 123 rfl) rfl
theorem q1827 : (Jvm.Cond.fieldLink "OpcodeForgeModel" (597 : Nat) "OpcodeForgeModel" "laidMoved" "I") ∈ lw_all := lw_g (lw_at lw_m7 124 rfl) rfl
theorem q1828 : (Jvm.Cond.fieldLink "OpcodeForgeModel" (606 : Nat) "OpcodeForgeModel" "laidBehind" "I") ∈ lw_all := lw_g (lw_at lw_m7 125 rfl) rfl
theorem q1829 : (Jvm.Cond.fieldLink "OpcodeForgeModel" (654 : Nat) "OpcodeForgeModel" "is203" "I") ∈ lw_all := lw_g (lw_at lw_m7 126 rfl) rfl
theorem q1830 : (Jvm.Cond.fieldLink "OpcodeForgeModel" (657 : Nat) "OpcodeForgeModel" "index" "I") ∈ lw_all := lw_g (lw_at lw_m7 127 rfl) rfl
theorem q1831 : (Jvm.Cond.fieldLink "OpcodeForgeModel" (662 : Nat) "OpcodeForgeModel" "op" "I") ∈ lw_all := lw_g (lw_at lw_m7 128 rfl) rfl
theorem q1832 : (Jvm.Cond.fieldLink "OpcodeForgeModel" (659 : Nat) "OpcodeForgeModel" "distance" "I") ∈ lw_all := lw_g (lw_at lw_m7 129 rfl) rfl
theorem q1833 : (Jvm.Cond.fieldLink "OpcodeForgeModel" (671 : Nat) "OpcodeForgeModel" "length" "I") ∈ lw_all := lw_g (lw_at lw_m7 130 rfl) rfl
theorem q1834 : (Jvm.Cond.fieldLink "OpcodeForgeModel" (665 : Nat) "OpcodeForgeModel" "operandAt" "I") ∈ lw_all := lw_g (lw_at lw_m7 131 rfl) rfl
theorem q1835 : (Jvm.Cond.fieldLink "OpcodeForgeModel" (69 : Nat) "OpcodeForgeModel" "written" "[I") ∈ lw_all := lw_g (lw_at lw_m7 132 rfl) rfl
theorem q1836 : (Jvm.Cond.fieldLink "OpcodeForgeModel" (686 : Nat) "OpcodeForgeModel" "writtenSize" "I") ∈ lw_all := lw_g (lw_at lw_m7 133 rfl) rfl
theorem q1837 : (Jvm.Cond.fieldLink "OpcodeForgeModel" (72 : Nat) "OpcodeForgeModel" "shown" "[I") ∈ lw_all := lw_g (lw_at lw_m7 134 rfl) rfl
theorem q1838 : (Jvm.Cond.fieldLink "OpcodeForgeModel" (862 : Nat) "OpcodeForgeModel" "shownSize" "I") ∈ lw_all := lw_g (lw_at lw_m7 135 rfl) rfl
theorem q1839 : (Jvm.Cond.fieldLink "OpcodeForgeModel" (75 : Nat) "OpcodeForgeModel" "lines" "[I") ∈ lw_all := lw_g (lw_at lw_m7 136 rfl) rfl
theorem q1840 : (Jvm.Cond.fieldLink "OpcodeForgeModel" (78 : Nat) "OpcodeForgeModel" "\x72" "[I") ∈ lw_all := lw_g (lw_at lw_m7 137 rfl) rfl
theorem q1841 : (Jvm.Cond.fieldLink "OpcodeForgeModel" (81 : Nat) "OpcodeForgeModel" "other" "[I") ∈ lw_all := lw_g (lw_at lw_m7 138 rfl) rfl
theorem q1842 : (Jvm.Cond.fieldLink "OpcodeForgeModel" (867 : Nat) "OpcodeForgeModel" "halfI" "I") ∈ lw_all := lw_g (lw_at lw_m7 139 rfl) rfl
theorem q1843 : (Jvm.Cond.fieldLink "OpcodeForgeModel" (870 : Nat) "OpcodeForgeModel" "halfR" "I") ∈ lw_all := lw_g (lw_at lw_m7 140 rfl) rfl
theorem q1844 : (Jvm.Cond.fieldLink "OpcodeForgeModel" (84 : Nat) "OpcodeForgeModel" "indexes" "[I") ∈ lw_all := lw_g (lw_at lw_m7 141 rfl) rfl
theorem q1845 : (Jvm.Cond.fieldLink "OpcodeForgeModel" (88 : Nat) "OpcodeForgeModel" "sp" "I") ∈ lw_all := lw_g (lw_at lw_m7 142 rfl) rfl
theorem q1846 : (Jvm.Cond.fieldLink "OpcodeForgeModel" (873 : Nat) "OpcodeForgeModel" "pc" "I") ∈ lw_all := lw_g (lw_at lw_m7 143 rfl) rfl
theorem q1847 : (Jvm.Cond.fieldLink "OpcodeForgeModel" (876 : Nat) "OpcodeForgeModel" "latch1" "I") ∈ lw_all := lw_g (lw_at lw_m7 144 rfl) rfl
theorem q1848 : (Jvm.Cond.fieldLink "OpcodeForgeModel" (879 : Nat) "OpcodeForgeModel" "latch2" "I") ∈ lw_all := lw_g (lw_at lw_m7 145 rfl) rfl
theorem q1849 : (Jvm.Cond.fieldLink "OpcodeForgeModel" (882 : Nat) "OpcodeForgeModel" "mode" "I") ∈ lw_all := lw_g (lw_at lw_m7 146 rfl) rfl
theorem q1850 : (Jvm.Cond.fieldLink "OpcodeForgeModel" (92 : Nat) "OpcodeForgeModel" "comes" "[I") ∈ lw_all := lw_g (lw_at lw_m7 147 rfl) rfl
theorem q1851 : (Jvm.Cond.fieldLink "OpcodeForgeModel" (95 : Nat) "OpcodeForgeModel" "went" "[I") ∈ lw_all := lw_g (lw_at lw_m7 148 rfl) rfl
theorem q1852 : (Jvm.Cond.fieldLink "OpcodeForgeModel" (885 : Nat) "OpcodeForgeModel" "hard" "Z") ∈ lw_all := lw_g (lw_at lw_m7 149 rfl) rfl
theorem q1853 : (Jvm.Cond.fieldLink "OpcodeForgeModel" (888 : Nat) "OpcodeForgeModel" "plainWaits" "Z") ∈ lw_all := lw_g (lw_at lw_m7 150 rfl) rfl
theorem q1854 : (Jvm.Cond.fieldLink "OpcodeForgeModel" (905 : Nat) "OpcodeForgeModel" "plainValue" "I") ∈ lw_all := lw_g (lw_at lw_m7 151 rfl) rfl
theorem q1855 : (Jvm.Cond.fieldLink "OpcodeForgeModel" (891 : Nat) "OpcodeForgeModel" "justEnabled" "Z") ∈ lw_all := lw_g (lw_at lw_m7 152 rfl) rfl
theorem q1856 : (Jvm.Cond.fieldLink "OpcodeForgeModel" (894 : Nat) "OpcodeForgeModel" "outCount" "J") ∈ lw_all := lw_g (lw_at lw_m7 153 rfl) rfl
theorem q1857 : (Jvm.Cond.laysFinal "OpcodeForgeModel" "OpcodeForgeModel" "source" "[I") ∈ lw_all := lw_g (lw_at lw_m7 154 rfl) rfl
theorem q1858 : (Jvm.Cond.soleField "OpcodeForgeModel" "source") ∈ lw_all := lw_g (lw_at lw_m7 155 rfl) rfl
theorem q1859 : (Jvm.Cond.lays "OpcodeForgeModel" "OpcodeForgeModel" "size" "I") ∈ lw_all := lw_g (lw_at lw_m7 156 rfl) rfl
theorem q1860 : (Jvm.Cond.soleField "OpcodeForgeModel" "size") ∈ lw_all := lw_g (lw_at lw_m7 157 rfl) rfl
theorem q1861 : (Jvm.Cond.lays "OpcodeForgeModel" "OpcodeForgeModel" "at" "I") ∈ lw_all := lw_g (lw_at lw_m7 158 rfl) rfl
theorem q1862 : (Jvm.Cond.soleField "OpcodeForgeModel" "at") ∈ lw_all := lw_g (lw_at lw_m7 159 rfl) rfl
theorem q1863 : (Jvm.Cond.lays "OpcodeForgeModel" "OpcodeForgeModel" "kind" "I") ∈ lw_all := lw_g (lw_at lw_m7 160 rfl) rfl
theorem q1864 : (Jvm.Cond.soleField "OpcodeForgeModel" "kind") ∈ lw_all := lw_g (lw_at lw_m7 161 rfl) rfl
theorem q1865 : (Jvm.Cond.lays "OpcodeForgeModel" "OpcodeForgeModel" "place" "I") ∈ lw_all := lw_g (lw_at lw_m7 162 rfl) rfl
theorem q1866 : (Jvm.Cond.soleField "OpcodeForgeModel" "place") ∈ lw_all := lw_g (lw_at lw_m7 163 rfl) rfl
theorem q1867 : (Jvm.Cond.lays "OpcodeForgeModel" "OpcodeForgeModel" "stop" "I") ∈ lw_all := lw_g (lw_at lw_m7 164 rfl) rfl
theorem q1868 : (Jvm.Cond.soleField "OpcodeForgeModel" "stop") ∈ lw_all := lw_g (lw_at lw_m7 165 rfl) rfl
theorem q1869 : (Jvm.Cond.lays "OpcodeForgeModel" "OpcodeForgeModel" "value" "I") ∈ lw_all := lw_g (lw_at lw_m7 166 rfl) rfl
theorem q1870 : (Jvm.Cond.soleField "OpcodeForgeModel" "value") ∈ lw_all := lw_g (lw_at lw_m7 167 rfl) rfl
theorem q1871 : (Jvm.Cond.lays "OpcodeForgeModel" "OpcodeForgeModel" "word" "J") ∈ lw_all := lw_g (lw_at lw_m7 168 rfl) rfl
theorem q1872 : (Jvm.Cond.soleField "OpcodeForgeModel" "word") ∈ lw_all := lw_g (lw_at lw_m7 169 rfl) rfl
theorem q1873 : (Jvm.Cond.lays "OpcodeForgeModel" "OpcodeForgeModel" "fault" "I") ∈ lw_all := lw_g (lw_at lw_m7 170 rfl) rfl
theorem q1874 : (Jvm.Cond.soleField "OpcodeForgeModel" "fault") ∈ lw_all := lw_g (lw_at lw_m7 171 rfl) rfl
theorem q1875 : (Jvm.Cond.lays "OpcodeForgeModel" "OpcodeForgeModel" "faultPlace" "I") ∈ lw_all := lw_g (lw_at lw_m7 172 rfl) rfl
theorem q1876 : (Jvm.Cond.soleField "OpcodeForgeModel" "faultPlace") ∈ lw_all := lw_g (lw_at lw_m7 173 rfl) rfl
theorem q1877 : (Jvm.Cond.laysFinal "OpcodeForgeModel" "OpcodeForgeModel" "names" "[I") ∈ lw_all := lw_g (lw_at lw_m7 174 rfl) rfl
theorem q1878 : (Jvm.Cond.soleField "OpcodeForgeModel" "names") ∈ lw_all := lw_g (lw_at lw_m7 175 rfl) rfl
theorem q1879 : (Jvm.Cond.laysFinal "OpcodeForgeModel" "OpcodeForgeModel" "nameSizes" "[I") ∈ lw_all := lw_g (lw_at lw_m7 176 rfl) rfl
theorem q1880 : (Jvm.Cond.soleField "OpcodeForgeModel" "nameSizes") ∈ lw_all := lw_g (lw_at lw_m7 177 rfl) rfl
theorem q1881 : (Jvm.Cond.laysFinal "OpcodeForgeModel" "OpcodeForgeModel" "nameValues" "[I") ∈ lw_all := lw_g (lw_at lw_m7 178 rfl) rfl
theorem q1882 : (Jvm.Cond.soleField "OpcodeForgeModel" "nameValues") ∈ lw_all := lw_g (lw_at lw_m7 179 rfl) rfl
theorem q1883 : (Jvm.Cond.lays "OpcodeForgeModel" "OpcodeForgeModel" "nameCount" "I") ∈ lw_all := lw_g (lw_at lw_m7 180 rfl) rfl
theorem q1884 : (Jvm.Cond.soleField "OpcodeForgeModel" "nameCount") ∈ lw_all := lw_g (lw_at lw_m7 181 rfl) rfl
theorem q1885 : (Jvm.Cond.laysFinal "OpcodeForgeModel" "OpcodeForgeModel" "waits" "[I") ∈ lw_all := lw_g (lw_at lw_m7 182 rfl) rfl
theorem q1886 : (Jvm.Cond.soleField "OpcodeForgeModel" "waits") ∈ lw_all := lw_g (lw_at lw_m7 183 rfl) rfl
theorem q1887 : (Jvm.Cond.laysFinal "OpcodeForgeModel" "OpcodeForgeModel" "waitPlaces" "[I") ∈ lw_all := lw_g (lw_at lw_m7 184 rfl) rfl
theorem q1888 : (Jvm.Cond.soleField "OpcodeForgeModel" "waitPlaces") ∈ lw_all := lw_g (lw_at lw_m7 185 rfl) rfl
theorem q1889 : (Jvm.Cond.lays "OpcodeForgeModel" "OpcodeForgeModel" "waiting" "I") ∈ lw_all := lw_g (lw_at lw_m7 186 rfl) rfl
theorem q1890 : (Jvm.Cond.soleField "OpcodeForgeModel" "waiting") ∈ lw_all := lw_g (lw_at lw_m7 187 rfl) rfl
theorem q1891 : (Jvm.Cond.laysFinal "OpcodeForgeModel" "OpcodeForgeModel" "values" "[I") ∈ lw_all := lw_g (lw_at lw_m7 188 rfl) rfl
theorem q1892 : (Jvm.Cond.soleField "OpcodeForgeModel" "values") ∈ lw_all := lw_g (lw_at lw_m7 189 rfl) rfl
theorem q1893 : (Jvm.Cond.lays "OpcodeForgeModel" "OpcodeForgeModel" "valued" "I") ∈ lw_all := lw_g (lw_at lw_m7 190 rfl) rfl
theorem q1894 : (Jvm.Cond.soleField "OpcodeForgeModel" "valued") ∈ lw_all := lw_g (lw_at lw_m7 191 rfl) rfl
theorem q1895 : (Jvm.Cond.lays "OpcodeForgeModel" "OpcodeForgeModel" "opens" "I") ∈ lw_all := lw_g (lw_at lw_m7 192 rfl) rfl
theorem q1896 : (Jvm.Cond.soleField "OpcodeForgeModel" "opens") ∈ lw_all := lw_g (lw_at lw_m7 193 rfl) rfl
theorem q1897 : (Jvm.Cond.lays "OpcodeForgeModel" "OpcodeForgeModel" "here" "I") ∈ lw_all := lw_g (lw_at lw_m7 194 rfl) rfl
theorem q1898 : (Jvm.Cond.soleField "OpcodeForgeModel" "here") ∈ lw_all := lw_g (lw_at lw_m7 195 rfl) rfl
theorem q1899 : (Jvm.Cond.lays "OpcodeForgeModel" "OpcodeForgeModel" "origin" "I") ∈ lw_all := lw_g (lw_at lw_m7 196 rfl) rfl
theorem q1900 : (Jvm.Cond.soleField "OpcodeForgeModel" "origin") ∈ lw_all := lw_g (lw_at lw_m7 197 rfl) rfl
theorem q1901 : (Jvm.Cond.lays "OpcodeForgeModel" "OpcodeForgeModel" "result" "I") ∈ lw_all := lw_g (lw_at lw_m7 198 rfl) rfl
theorem q1902 : (Jvm.Cond.soleField "OpcodeForgeModel" "result") ∈ lw_all := lw_g (lw_at lw_m7 199 rfl) rfl
theorem q1903 : (Jvm.Cond.laysFinal "OpcodeForgeModel" "OpcodeForgeModel" "kinds" "[I") ∈ lw_all := lw_g (lw_at lw_m7 200 rfl) rfl
theorem q1904 : (Jvm.Cond.soleField "OpcodeForgeModel" "kinds") ∈ lw_all := lw_g (lw_at lw_m7 201 rfl) rfl
theorem q1905 : (Jvm.Cond.laysFinal "OpcodeForgeModel" "OpcodeForgeModel" "which" "[I") ∈ lw_all := lw_g (lw_at lw_m7 202 rfl) rfl
theorem q1906 : (Jvm.Cond.soleField "OpcodeForgeModel" "which") ∈ lw_all := lw_g (lw_at lw_m7 203 rfl) rfl
theorem q1907 : (Jvm.Cond.laysFinal "OpcodeForgeModel" "OpcodeForgeModel" "begins" "[I") ∈ lw_all := lw_g (lw_at lw_m7 204 rfl) rfl
theorem q1908 : (Jvm.Cond.soleField "OpcodeForgeModel" "begins") ∈ lw_all := lw_g (lw_at lw_m7 205 rfl) rfl
theorem q1909 : (Jvm.Cond.laysFinal "OpcodeForgeModel" "OpcodeForgeModel" "turned" "[Z") ∈ lw_all := lw_g (lw_at lw_m7 206 rfl) rfl
theorem q1910 : (Jvm.Cond.soleField "OpcodeForgeModel" "turned") ∈ lw_all := lw_g (lw_at lw_m7 207 rfl) rfl
theorem q1911 : (Jvm.Cond.laysFinal "OpcodeForgeModel" "OpcodeForgeModel" "bare" "[Z") ∈ lw_all := lw_g (lw_at lw_m7 208 rfl) rfl
theorem q1912 : (Jvm.Cond.soleField "OpcodeForgeModel" "bare") ∈ lw_all := lw_g (lw_at lw_m7 209 rfl) rfl
theorem q1913 : (Jvm.Cond.lays "OpcodeForgeModel" "OpcodeForgeModel" "operands" "I") ∈ lw_all := lw_g (lw_at lw_m7 210 rfl) rfl
theorem q1914 : (Jvm.Cond.soleField "OpcodeForgeModel" "operands") ∈ lw_all := lw_g (lw_at lw_m7 211 rfl) rfl
theorem q1915 : (Jvm.Cond.lays "OpcodeForgeModel" "OpcodeForgeModel" "front" "I") ∈ lw_all := lw_g (lw_at lw_m7 212 rfl) rfl
theorem q1916 : (Jvm.Cond.soleField "OpcodeForgeModel" "front") ∈ lw_all := lw_g (lw_at lw_m7 213 rfl) rfl
theorem q1917 : (Jvm.Cond.lays "OpcodeForgeModel" "OpcodeForgeModel" "middle" "I") ∈ lw_all := lw_g (lw_at lw_m7 214 rfl) rfl
theorem q1918 : (Jvm.Cond.soleField "OpcodeForgeModel" "middle") ∈ lw_all := lw_g (lw_at lw_m7 215 rfl) rfl
theorem q1919 : (Jvm.Cond.lays "OpcodeForgeModel" "OpcodeForgeModel" "code" "I") ∈ lw_all := lw_g (lw_at lw_m7 216 rfl) rfl
theorem q1920 : (Jvm.Cond.soleField "OpcodeForgeModel" "code") ∈ lw_all := lw_g (lw_at lw_m7 217 rfl) rfl
theorem q1921 : (Jvm.Cond.lays "OpcodeForgeModel" "OpcodeForgeModel" "behindKind" "I") ∈ lw_all := lw_g (lw_at lw_m7 218 rfl) rfl
theorem q1922 : (Jvm.Cond.soleField "OpcodeForgeModel" "behindKind") ∈ lw_all := lw_g (lw_at lw_m7 219 rfl) rfl
theorem q1923 : (Jvm.Cond.lays "OpcodeForgeModel" "OpcodeForgeModel" "behindOf" "I") ∈ lw_all := lw_g (lw_at lw_m7 220 rfl) rfl
theorem q1924 : (Jvm.Cond.soleField "OpcodeForgeModel" "behindOf") ∈ lw_all := lw_g (lw_at lw_m7 221 rfl) rfl
theorem q1925 : (Jvm.Cond.lays "OpcodeForgeModel" "OpcodeForgeModel" "partKind" "I") ∈ lw_all := lw_g (lw_at lw_m7 222 rfl) rfl
theorem q1926 : (Jvm.Cond.soleField "OpcodeForgeModel" "partKind") ∈ lw_all := lw_g (lw_at lw_m7 223 rfl) rfl
theorem q1927 : (Jvm.Cond.lays "OpcodeForgeModel" "OpcodeForgeModel" "partOf" "I") ∈ lw_all := lw_g (lw_at lw_m7 224 rfl) rfl
theorem q1928 : (Jvm.Cond.soleField "OpcodeForgeModel" "partOf") ∈ lw_all := lw_g (lw_at lw_m7 225 rfl) rfl
theorem q1929 : (Jvm.Cond.lays "OpcodeForgeModel" "OpcodeForgeModel" "moved" "I") ∈ lw_all := lw_g (lw_at lw_m7 226 rfl) rfl
theorem q1930 : (Jvm.Cond.soleField "OpcodeForgeModel" "moved") ∈ lw_all := lw_g (lw_at lw_m7 227 rfl) rfl
theorem q1931 : (Jvm.Cond.laysFinal "OpcodeForgeModel" "OpcodeForgeModel" "memory" "[I") ∈ lw_all := lw_g (lw_at lw_m7 228 rfl) rfl
theorem q1932 : (Jvm.Cond.soleField "OpcodeForgeModel" "memory") ∈ lw_all := lw_g (lw_at lw_m7 229 rfl) rfl
theorem q1933 : (Jvm.Cond.laysFinal "OpcodeForgeModel" "OpcodeForgeModel" "draft" "[I") ∈ lw_all := lw_g (lw_at lw_m7 230 rfl) rfl
theorem q1934 : (Jvm.Cond.soleField "OpcodeForgeModel" "draft") ∈ lw_all := lw_g (lw_at lw_m7 231 rfl) rfl
theorem q1935 : (Jvm.Cond.lays "OpcodeForgeModel" "OpcodeForgeModel" "putCount" "I") ∈ lw_all := lw_g (lw_at lw_m7 232 rfl) rfl
theorem q1936 : (Jvm.Cond.soleField "OpcodeForgeModel" "putCount") ∈ lw_all := lw_g (lw_at lw_m7 233 rfl) rfl
theorem q1937 : (Jvm.Cond.lays "OpcodeForgeModel" "OpcodeForgeModel" "firstPut" "I") ∈ lw_all := lw_g (lw_at lw_m7 234 rfl) rfl
theorem q1938 : (Jvm.Cond.soleField "OpcodeForgeModel" "firstPut") ∈ lw_all := lw_g (lw_at lw_m7 235 rfl) rfl
theorem q1939 : (Jvm.Cond.lays "OpcodeForgeModel" "OpcodeForgeModel" "line" "I") ∈ lw_all := lw_g (lw_at lw_m7 236 rfl) rfl
theorem q1940 : (Jvm.Cond.soleField "OpcodeForgeModel" "line") ∈ lw_all := lw_g (lw_at lw_m7 237 rfl) rfl
theorem q1941 : (Jvm.Cond.lays "OpcodeForgeModel" "OpcodeForgeModel" "second" "Z") ∈ lw_all := lw_g (lw_at lw_m7 238 rfl) rfl
theorem q1942 : (Jvm.Cond.soleField "OpcodeForgeModel" "second") ∈ lw_all := lw_g (lw_at lw_m7 239 rfl) rfl
theorem q1943 : (Jvm.Cond.laysFinal "OpcodeForgeModel" "OpcodeForgeModel" "done" "[Z") ∈ lw_all := lw_g (lw_at lw_m8 0 rfl) rfl
theorem q1944 : (Jvm.Cond.soleField "OpcodeForgeModel" "done") ∈ lw_all := lw_g (lw_at lw_m8 1 rfl) rfl
theorem q1945 : (Jvm.Cond.laysFinal "OpcodeForgeModel" "OpcodeForgeModel" "elses" "[Z") ∈ lw_all := lw_g (lw_at lw_m8 2 rfl) rfl
theorem q1946 : (Jvm.Cond.soleField "OpcodeForgeModel" "elses") ∈ lw_all := lw_g (lw_at lw_m8 3 rfl) rfl
theorem q1947 : (Jvm.Cond.lays "OpcodeForgeModel" "OpcodeForgeModel" "ifs" "I") ∈ lw_all := lw_g (lw_at lw_m8 4 rfl) rfl
theorem q1948 : (Jvm.Cond.soleField "OpcodeForgeModel" "ifs") ∈ lw_all := lw_g (lw_at lw_m8 5 rfl) rfl
theorem q1949 : (Jvm.Cond.lays "OpcodeForgeModel" "OpcodeForgeModel" "latestLine" "I") ∈ lw_all := lw_g (lw_at lw_m8 6 rfl) rfl
theorem q1950 : (Jvm.Cond.soleField "OpcodeForgeModel" "latestLine") ∈ lw_all := lw_g (lw_at lw_m8 7 rfl) rfl
theorem q1951 : (Jvm.Cond.lays "OpcodeForgeModel" "OpcodeForgeModel" "latestPlace" "I") ∈ lw_all := lw_g (lw_at lw_m8 8 rfl) rfl
theorem q1952 : (Jvm.Cond.soleField "OpcodeForgeModel" "latestPlace") ∈ lw_all := lw_g (lw_at lw_m8 9 rfl) rfl
theorem q1953 : (Jvm.Cond.lays "OpcodeForgeModel" "OpcodeForgeModel" "latestLines" "I") ∈ lw_all := lw_g (lw_at lw_m8 10 rfl) rfl
theorem q1954 : (Jvm.Cond.soleField "OpcodeForgeModel" "latestLines") ∈ lw_all := lw_g (lw_at lw_m8 11 rfl) rfl
theorem q1955 : (Jvm.Cond.lays "OpcodeForgeModel" "OpcodeForgeModel" "latestFirst" "I") ∈ lw_all := lw_g (lw_at lw_m8 12 rfl) rfl
theorem q1956 : (Jvm.Cond.soleField "OpcodeForgeModel" "latestFirst") ∈ lw_all := lw_g (lw_at lw_m8 13 rfl) rfl
theorem q1957 : (Jvm.Cond.lays "OpcodeForgeModel" "OpcodeForgeModel" "latestEnd" "I") ∈ lw_all := lw_g (lw_at lw_m8 14 rfl) rfl
theorem q1958 : (Jvm.Cond.soleField "OpcodeForgeModel" "latestEnd") ∈ lw_all := lw_g (lw_at lw_m8 15 rfl) rfl
theorem q1959 : (Jvm.Cond.lays "OpcodeForgeModel" "OpcodeForgeModel" "labels" "I") ∈ lw_all := lw_g (lw_at lw_m8 16 rfl) rfl
theorem q1960 : (Jvm.Cond.soleField "OpcodeForgeModel" "labels") ∈ lw_all := lw_g (lw_at lw_m8 17 rfl) rfl
theorem q1961 : (Jvm.Cond.laysFinal "OpcodeForgeModel" "OpcodeForgeModel" "labelNames" "[I") ∈ lw_all := lw_g (lw_at lw_m8 18 rfl) rfl
theorem q1962 : (Jvm.Cond.soleField "OpcodeForgeModel" "labelNames") ∈ lw_all := lw_g (lw_at lw_m8 19 rfl) rfl
theorem q1963 : (Jvm.Cond.laysFinal "OpcodeForgeModel" "OpcodeForgeModel" "labelSizes" "[I") ∈ lw_all := lw_g (lw_at lw_m8 20 rfl) rfl
theorem q1964 : (Jvm.Cond.soleField "OpcodeForgeModel" "labelSizes") ∈ lw_all := lw_g (lw_at lw_m8 21 rfl) rfl
theorem q1965 : (Jvm.Cond.laysFinal "OpcodeForgeModel" "OpcodeForgeModel" "labelValues" "[I") ∈ lw_all := lw_g (lw_at lw_m8 22 rfl) rfl
theorem q1966 : (Jvm.Cond.soleField "OpcodeForgeModel" "labelValues") ∈ lw_all := lw_g (lw_at lw_m8 23 rfl) rfl
theorem q1967 : (Jvm.Cond.lays "OpcodeForgeModel" "OpcodeForgeModel" "laidPart" "I") ∈ lw_all := lw_g (lw_at lw_m8 24 rfl) rfl
theorem q1968 : (Jvm.Cond.soleField "OpcodeForgeModel" "laidPart") ∈ lw_all := lw_g (lw_at lw_m8 25 rfl) rfl
theorem q1969 : (Jvm.Cond.lays "OpcodeForgeModel" "OpcodeForgeModel" "laidMoved" "I") ∈ lw_all := lw_g (lw_at lw_m8 26 rfl) rfl
theorem q1970 : (Jvm.Cond.soleField "OpcodeForgeModel" "laidMoved") ∈ lw_all := lw_g (lw_at lw_m8 27 rfl) rfl
theorem q1971 : (Jvm.Cond.lays "OpcodeForgeModel" "OpcodeForgeModel" "laidBehind" "I") ∈ lw_all := lw_g (lw_at lw_m8 28 rfl) rfl
theorem q1972 : (Jvm.Cond.soleField "OpcodeForgeModel" "laidBehind") ∈ lw_all := lw_g (lw_at lw_m8 29 rfl) rfl
theorem q1973 : (Jvm.Cond.lays "OpcodeForgeModel" "OpcodeForgeModel" "skipTo" "I") ∈ lw_all := lw_g (lw_at lw_m8 30 rfl) rfl
theorem q1974 : (Jvm.Cond.soleField "OpcodeForgeModel" "skipTo") ∈ lw_all := lw_g (lw_at lw_m8 31 rfl) rfl
theorem q1975 : (Jvm.Cond.lays "OpcodeForgeModel" "OpcodeForgeModel" "is203" "I") ∈ lw_all := lw_g (lw_at lw_m8 32 rfl) rfl
theorem q1976 : (Jvm.Cond.soleField "OpcodeForgeModel" "is203") ∈ lw_all := lw_g (lw_at lw_m8 33 rfl) rfl
theorem q1977 : (Jvm.Cond.lays "OpcodeForgeModel" "OpcodeForgeModel" "index" "I") ∈ lw_all := lw_g (lw_at lw_m8 34 rfl) rfl
theorem q1978 : (Jvm.Cond.soleField "OpcodeForgeModel" "index") ∈ lw_all := lw_g (lw_at lw_m8 35 rfl) rfl
theorem q1979 : (Jvm.Cond.lays "OpcodeForgeModel" "OpcodeForgeModel" "op" "I") ∈ lw_all := lw_g (lw_at lw_m8 36 rfl) rfl
theorem q1980 : (Jvm.Cond.soleField "OpcodeForgeModel" "op") ∈ lw_all := lw_g (lw_at lw_m8 37 rfl) rfl
theorem q1981 : (Jvm.Cond.lays "OpcodeForgeModel" "OpcodeForgeModel" "distance" "I") ∈ lw_all := lw_g (lw_at lw_m8 38 rfl) rfl
theorem q1982 : (Jvm.Cond.soleField "OpcodeForgeModel" "distance") ∈ lw_all := lw_g (lw_at lw_m8 39 rfl) rfl
theorem q1983 : (Jvm.Cond.lays "OpcodeForgeModel" "OpcodeForgeModel" "length" "I") ∈ lw_all := lw_g (lw_at lw_m8 40 rfl) rfl
theorem q1984 : (Jvm.Cond.soleField "OpcodeForgeModel" "length") ∈ lw_all := lw_g (lw_at lw_m8 41 rfl) rfl
theorem q1985 : (Jvm.Cond.lays "OpcodeForgeModel" "OpcodeForgeModel" "operandAt" "I") ∈ lw_all := lw_g (lw_at lw_m8 42 rfl) rfl
theorem q1986 : (Jvm.Cond.soleField "OpcodeForgeModel" "operandAt") ∈ lw_all := lw_g (lw_at lw_m8 43 rfl) rfl
theorem q1987 : (Jvm.Cond.laysFinal "OpcodeForgeModel" "OpcodeForgeModel" "written" "[I") ∈ lw_all := lw_g (lw_at lw_m8 44 rfl) rfl
theorem q1988 : (Jvm.Cond.soleField "OpcodeForgeModel" "written") ∈ lw_all := lw_g (lw_at lw_m8 45 rfl) rfl
theorem q1989 : (Jvm.Cond.lays "OpcodeForgeModel" "OpcodeForgeModel" "writtenSize" "I") ∈ lw_all := lw_g (lw_at lw_m8 46 rfl) rfl
theorem q1990 : (Jvm.Cond.soleField "OpcodeForgeModel" "writtenSize") ∈ lw_all := lw_g (lw_at lw_m8 47 rfl) rfl
theorem q1991 : (Jvm.Cond.laysFinal "OpcodeForgeModel" "OpcodeForgeModel" "shown" "[I") ∈ lw_all := lw_g (lw_at lw_m8 48 rfl) rfl
theorem q1992 : (Jvm.Cond.soleField "OpcodeForgeModel" "shown") ∈ lw_all := lw_g (lw_at lw_m8 49 rfl) rfl
theorem q1993 : (Jvm.Cond.lays "OpcodeForgeModel" "OpcodeForgeModel" "shownSize" "I") ∈ lw_all := lw_g (lw_at lw_m8 50 rfl) rfl
theorem q1994 : (Jvm.Cond.soleField "OpcodeForgeModel" "shownSize") ∈ lw_all := lw_g (lw_at lw_m8 51 rfl) rfl
theorem q1995 : (Jvm.Cond.laysFinal "OpcodeForgeModel" "OpcodeForgeModel" "lines" "[I") ∈ lw_all := lw_g (lw_at lw_m8 52 rfl) rfl
theorem q1996 : (Jvm.Cond.soleField "OpcodeForgeModel" "lines") ∈ lw_all := lw_g (lw_at lw_m8 53 rfl) rfl
theorem q1997 : (Jvm.Cond.laysFinal "OpcodeForgeModel" "OpcodeForgeModel" "\x72" "[I") ∈ lw_all := lw_g (lw_at lw_m8 54 rfl) rfl
theorem q1998 : (Jvm.Cond.soleField "OpcodeForgeModel" "\x72") ∈ lw_all := lw_g (lw_at lw_m8 55 rfl) rfl
theorem q1999 : (Jvm.Cond.laysFinal "OpcodeForgeModel" "OpcodeForgeModel" "other" "[I") ∈ lw_all := lw_g (lw_at lw_m8 56 rfl) rfl
theorem q2000 : (Jvm.Cond.soleField "OpcodeForgeModel" "other") ∈ lw_all := lw_g (lw_at lw_m8 57 rfl) rfl
theorem q2001 : (Jvm.Cond.lays "OpcodeForgeModel" "OpcodeForgeModel" "halfI" "I") ∈ lw_all := lw_g (lw_at lw_m8 58 rfl) rfl
theorem q2002 : (Jvm.Cond.soleField "OpcodeForgeModel" "halfI") ∈ lw_all := lw_g (lw_at lw_m8 59 rfl) rfl
theorem q2003 : (Jvm.Cond.lays "OpcodeForgeModel" "OpcodeForgeModel" "halfR" "I") ∈ lw_all := lw_g (lw_at lw_m8 60 rfl) rfl
theorem q2004 : (Jvm.Cond.soleField "OpcodeForgeModel" "halfR") ∈ lw_all := lw_g (lw_at lw_m8 61 rfl) rfl
theorem q2005 : (Jvm.Cond.laysFinal "OpcodeForgeModel" "OpcodeForgeModel" "indexes" "[I") ∈ lw_all := lw_g (lw_at lw_m8 62 rfl) rfl
theorem q2006 : (Jvm.Cond.soleField "OpcodeForgeModel" "indexes") ∈ lw_all := lw_g (lw_at lw_m8 63 rfl) rfl
theorem q2007 : (Jvm.Cond.lays "OpcodeForgeModel" "OpcodeForgeModel" "sp" "I") ∈ lw_all := lw_g (lw_at lw_m8 64 rfl) rfl
theorem q2008 : (Jvm.Cond.soleField "OpcodeForgeModel" "sp") ∈ lw_all := lw_g (lw_at lw_m8 65 rfl) rfl
theorem q2009 : (Jvm.Cond.lays "OpcodeForgeModel" "OpcodeForgeModel" "pc" "I") ∈ lw_all := lw_g (lw_at lw_m8 66 rfl) rfl
theorem q2010 : (Jvm.Cond.soleField "OpcodeForgeModel" "pc") ∈ lw_all := lw_g (lw_at lw_m8 67 rfl) rfl
theorem q2011 : (Jvm.Cond.lays "OpcodeForgeModel" "OpcodeForgeModel" "latch1" "I") ∈ lw_all := lw_g (lw_at lw_m8 68 rfl) rfl
theorem q2012 : (Jvm.Cond.soleField "OpcodeForgeModel" "latch1") ∈ lw_all := lw_g (lw_at lw_m8 69 rfl) rfl
theorem q2013 : (Jvm.Cond.lays "OpcodeForgeModel" "OpcodeForgeModel" "latch2" "I") ∈ lw_all := lw_g (lw_at lw_m8 70 rfl) rfl
theorem q2014 : (Jvm.Cond.soleField "OpcodeForgeModel" "latch2") ∈ lw_all := lw_g (lw_at lw_m8 71 rfl) rfl
theorem q2015 : (Jvm.Cond.lays "OpcodeForgeModel" "OpcodeForgeModel" "mode" "I") ∈ lw_all := lw_g (lw_at lw_m8 72 rfl) rfl
theorem q2016 : (Jvm.Cond.soleField "OpcodeForgeModel" "mode") ∈ lw_all := lw_g (lw_at lw_m8 73 rfl) rfl
theorem q2017 : (Jvm.Cond.laysFinal "OpcodeForgeModel" "OpcodeForgeModel" "comes" "[I") ∈ lw_all := lw_g (lw_at lw_m8 74 rfl) rfl
theorem q2018 : (Jvm.Cond.soleField "OpcodeForgeModel" "comes") ∈ lw_all := lw_g (lw_at lw_m8 75 rfl) rfl
theorem q2019 : (Jvm.Cond.laysFinal "OpcodeForgeModel" "OpcodeForgeModel" "went" "[I") ∈ lw_all := lw_g (lw_at lw_m8 76 rfl) rfl
theorem q2020 : (Jvm.Cond.soleField "OpcodeForgeModel" "went") ∈ lw_all := lw_g (lw_at lw_m8 77 rfl) rfl
theorem q2021 : (Jvm.Cond.lays "OpcodeForgeModel" "OpcodeForgeModel" "hard" "Z") ∈ lw_all := lw_g (lw_at lw_m8 78 rfl) rfl
theorem q2022 : (Jvm.Cond.soleField "OpcodeForgeModel" "hard") ∈ lw_all := lw_g (lw_at lw_m8 79 rfl) rfl
theorem q2023 : (Jvm.Cond.lays "OpcodeForgeModel" "OpcodeForgeModel" "plainWaits" "Z") ∈ lw_all := lw_g (lw_at lw_m8 80 rfl) rfl
theorem q2024 : (Jvm.Cond.soleField "OpcodeForgeModel" "plainWaits") ∈ lw_all := lw_g (lw_at lw_m8 81 rfl) rfl
theorem q2025 : (Jvm.Cond.lays "OpcodeForgeModel" "OpcodeForgeModel" "plainValue" "I") ∈ lw_all := lw_g (lw_at lw_m8 82 rfl) rfl
theorem q2026 : (Jvm.Cond.soleField "OpcodeForgeModel" "plainValue") ∈ lw_all := lw_g (lw_at lw_m8 83 rfl) rfl
theorem q2027 : (Jvm.Cond.lays "OpcodeForgeModel" "OpcodeForgeModel" "justEnabled" "Z") ∈ lw_all := lw_g (lw_at lw_m8 84 rfl) rfl
theorem q2028 : (Jvm.Cond.soleField "OpcodeForgeModel" "justEnabled") ∈ lw_all := lw_g (lw_at lw_m8 85 rfl) rfl
theorem q2029 : (Jvm.Cond.lays "OpcodeForgeModel" "OpcodeForgeModel" "outCount" "J") ∈ lw_all := lw_g (lw_at lw_m8 86 rfl) rfl
theorem q2030 : (Jvm.Cond.soleField "OpcodeForgeModel" "outCount") ∈ lw_all := lw_g (lw_at lw_m8 87 rfl) rfl
theorem q2031 : (Jvm.Cond.superclass "OpcodeForgeModel" "java/lang/Object") ∈ lw_all := lw_g (lw_at lw_m8 88 rfl) rfl
theorem q2033 : (Jvm.Cond.instanceMethod ({ cls := "OpcodeForgeModel", name := "feed", desc := "(JI)I" } : Jvm.MethodName)) ∈ lw_all := lw_g (lw_at lw_m8 90 rfl) rfl
theorem q2034 : (Jvm.Cond.selects "OpcodeForgeModel" ({ cls := "OpcodeForgeModel", name := "feed", desc := "(JI)I" } : Jvm.MethodName) ({ cls := "OpcodeForgeModel", name := "feed", desc := "(JI)I" } : Jvm.MethodName)) ∈ lw_all := lw_g (lw_at lw_m8 91 rfl) rfl
theorem q2035 : (Jvm.Cond.code ({ cls := "OpcodeForgeModel", name := "feed", desc := "(JI)I" } : Jvm.MethodName) prog_12_method_2_code (5 : Nat) (Option.some Jvm.ClassFile.FieldType.int)) ∈ lw_all := lw_g (lw_at lw_m8 92 rfl) rfl
theorem q2036 : (Jvm.Cond.constantLong "OpcodeForgeModel" (101 : Nat) (255 : Int64)) ∈ lw_all := lw_g (lw_at lw_m8 93 rfl) rfl
theorem q2038 : (Jvm.Cond.instanceMethod ({ cls := "OpcodeForgeModel", name := "sourceAt", desc := "(I)I" } : Jvm.MethodName)) ∈ lw_all := lw_g (lw_at lw_m8 95 rfl) rfl
theorem q2039 : (Jvm.Cond.selects "OpcodeForgeModel" ({ cls := "OpcodeForgeModel", name := "sourceAt", desc := "(I)I" } : Jvm.MethodName) ({ cls := "OpcodeForgeModel", name := "sourceAt", desc := "(I)I" } : Jvm.MethodName)) ∈ lw_all := lw_g (lw_at lw_m8 96 rfl) rfl
theorem q2040 : (Jvm.Cond.code ({ cls := "OpcodeForgeModel", name := "sourceAt", desc := "(I)I" } : Jvm.MethodName) prog_12_method_3_code (2 : Nat) (Option.some Jvm.ClassFile.FieldType.int)) ∈ lw_all := lw_g (lw_at lw_m8 97 rfl) rfl
theorem q2042 : (Jvm.Cond.instanceMethod ({ cls := "OpcodeForgeModel", name := "forge", desc := "()I" } : Jvm.MethodName)) ∈ lw_all := lw_g (lw_at lw_m8 99 rfl) rfl
theorem q2043 : (Jvm.Cond.selects "OpcodeForgeModel" ({ cls := "OpcodeForgeModel", name := "forge", desc := "()I" } : Jvm.MethodName) ({ cls := "OpcodeForgeModel", name := "forge", desc := "()I" } : Jvm.MethodName)) ∈ lw_all := lw_g (lw_at lw_m8 100 rfl) rfl
theorem q2044 : (Jvm.Cond.code ({ cls := "OpcodeForgeModel", name := "forge", desc := "()I" } : Jvm.MethodName) prog_12_method_75_code (4 : Nat) (Option.some Jvm.ClassFile.FieldType.int)) ∈ lw_all := lw_g (lw_at lw_m8 101 rfl) rfl
theorem q2045 : (Jvm.Cond.methodLink "OpcodeForgeModel" (630 : Nat) ({ cls := "OpcodeForgeModel", name := "pass", desc := "()Z" } : Jvm.MethodName)) ∈ lw_all := lw_g (lw_at lw_m8 102 rfl) rfl
theorem q2046 : (Jvm.Cond.privateMethod ({ cls := "OpcodeForgeModel", name := "pass", desc := "()Z" } : Jvm.MethodName)) ∈ lw_tbl := lw_at lw_m8 103 rfl
theorem q2047 : (Jvm.Cond.instanceMethod ({ cls := "OpcodeForgeModel", name := "pass", desc := "()Z" } : Jvm.MethodName)) ∈ lw_all := lw_g (lw_at lw_m8 104 rfl) rfl
theorem q2048 : (Jvm.Cond.code ({ cls := "OpcodeForgeModel", name := "pass", desc := "()Z" } : Jvm.MethodName) prog_12_method_61_code (1 : Nat) (Option.some Jvm.ClassFile.FieldType.boolean)) ∈ lw_all := lw_g (lw_at lw_m8 105 rfl) rfl
theorem q2049 : (Jvm.Cond.methodLink "OpcodeForgeModel" (115 : Nat) ({ cls := "OpcodeForgeModel", name := "wrong", desc := "(II)Z" } : Jvm.MethodName)) ∈ lw_all := lw_g (lw_at lw_m8 106 rfl) rfl
theorem q2050 : (Jvm.Cond.privateMethod ({ cls := "OpcodeForgeModel", name := "wrong", desc := "(II)Z" } : Jvm.MethodName)) ∈ lw_tbl := lw_at lw_m8 107 rfl
theorem q2051 : (Jvm.Cond.instanceMethod ({ cls := "OpcodeForgeModel", name := "wrong", desc := "(II)Z" } : Jvm.MethodName)) ∈ lw_all := lw_g (lw_at lw_m8 108 rfl) rfl
theorem q2052 : (Jvm.Cond.code ({ cls := "OpcodeForgeModel", name := "wrong", desc := "(II)Z" } : Jvm.MethodName) prog_12_method_4_code (3 : Nat) (Option.some Jvm.ClassFile.FieldType.boolean)) ∈ lw_all := lw_g (lw_at lw_m8 109 rfl) rfl
theorem q2053 : (Jvm.Cond.methodLink "OpcodeForgeModel" (552 : Nat) ({ cls := "OpcodeForgeModel", name := "readLine", desc := "()Z" } : Jvm.MethodName)) ∈ lw_all := lw_g (lw_at lw_m8 110 rfl) rfl
theorem q2054 : (Jvm.Cond.privateMethod ({ cls := "OpcodeForgeModel", name := "readLine", desc := "()Z" } : Jvm.MethodName)) ∈ lw_tbl := lw_at lw_m8 111 rfl
theorem q2055 : (Jvm.Cond.instanceMethod ({ cls := "OpcodeForgeModel", name := "readLine", desc := "()Z" } : Jvm.MethodName)) ∈ lw_all := lw_g (lw_at lw_m8 112 rfl) rfl
theorem q2056 : (Jvm.Cond.code ({ cls := "OpcodeForgeModel", name := "readLine", desc := "()Z" } : Jvm.MethodName) prog_12_method_62_code (5 : Nat) (Option.some Jvm.ClassFile.FieldType.boolean)) ∈ lw_all := lw_g (lw_at lw_m8 113 rfl) rfl
theorem q2057 : (Jvm.Cond.methodLink "OpcodeForgeModel" (555 : Nat) ({ cls := "OpcodeForgeModel", name := "isDone", desc := "()Z" } : Jvm.MethodName)) ∈ lw_all := lw_g (lw_at lw_m8 114 rfl) rfl
theorem q2058 : (Jvm.Cond.privateMethod ({ cls := "OpcodeForgeModel", name := "isDone", desc := "()Z" } : Jvm.MethodName)) ∈ lw_tbl := lw_at lw_m8 115 rfl
theorem q2059 : (Jvm.Cond.instanceMethod ({ cls := "OpcodeForgeModel", name := "isDone", desc := "()Z" } : Jvm.MethodName)) ∈ lw_all := lw_g (lw_at lw_m8 116 rfl) rfl
theorem q2060 : (Jvm.Cond.code ({ cls := "OpcodeForgeModel", name := "isDone", desc := "()Z" } : Jvm.MethodName) prog_12_method_60_code (3 : Nat) (Option.some Jvm.ClassFile.FieldType.boolean)) ∈ lw_all := lw_g (lw_at lw_m8 117 rfl) rfl
theorem q2061 : (Jvm.Cond.methodLink "OpcodeForgeModel" (558 : Nat) ({ cls := "OpcodeForgeModel", name := "skipLine", desc := "()Z" } : Jvm.MethodName)) ∈ lw_all := lw_g (lw_at lw_m8 118 rfl) rfl
theorem q2062 : (Jvm.Cond.privateMethod ({ cls := "OpcodeForgeModel", name := "skipLine", desc := "()Z" } : Jvm.MethodName)) ∈ lw_tbl := lw_at lw_m8 119 rfl
theorem q2063 : (Jvm.Cond.instanceMethod ({ cls := "OpcodeForgeModel", name := "skipLine", desc := "()Z" } : Jvm.MethodName)) ∈ lw_all := lw_g (lw_at lw_m8 120 rfl) rfl
theorem q2064 : (Jvm.Cond.code ({ cls := "OpcodeForgeModel", name := "skipLine", desc := "()Z" } : Jvm.MethodName) prog_12_method_74_code (5 : Nat) (Option.some Jvm.ClassFile.FieldType.boolean)) ∈ lw_all := lw_g (lw_at lw_m8 121 rfl) rfl
theorem q2065 : (Jvm.Cond.methodLink "OpcodeForgeModel" (626 : Nat) ({ cls := "OpcodeForgeModel", name := "anyName", desc := "()J" } : Jvm.MethodName)) ∈ lw_all := lw_g (lw_at lw_m8 122 rfl) rfl
theorem q2066 : (Jvm.Cond.privateMethod ({ cls := "OpcodeForgeModel", name := "anyName", desc := "()J" } : Jvm.MethodName)) ∈ lw_tbl := lw_at lw_m8 123 rfl
theorem q2067 : (Jvm.Cond.instanceMethod ({ cls := "OpcodeForgeModel", name := "anyName", desc := "()J" } : Jvm.MethodName)) ∈ lw_all := lw_g (lw_at lw_m8 124 rfl) rfl
theorem q2068 : (Jvm.Cond.code ({ cls := "OpcodeForgeModel", name := "anyName", desc := "()J" } : Jvm.MethodName) prog_12_method_73_code (4 : Nat) (Option.some Jvm.ClassFile.FieldType.long)) ∈ lw_all := lw_g (lw_at lw_m8 125 rfl) rfl
theorem q2069 : (Jvm.Cond.methodLink "OpcodeForgeModel" (126 : Nat) ({ cls := "OpcodeForgeModel", name := "byteAt", desc := "(I)I" } : Jvm.MethodName)) ∈ lw_all := lw_g (lw_at lw_m8 126 rfl) rfl
theorem q2070 : (Jvm.Cond.privateMethod ({ cls := "OpcodeForgeModel", name := "byteAt", desc := "(I)I" } : Jvm.MethodName)) ∈ lw_tbl := lw_at lw_m8 127 rfl
theorem q2071 : (Jvm.Cond.instanceMethod ({ cls := "OpcodeForgeModel", name := "byteAt", desc := "(I)I" } : Jvm.MethodName)) ∈ lw_all := lw_g (lw_at lw_m8 128 rfl) rfl
theorem q2072 : (Jvm.Cond.code ({ cls := "OpcodeForgeModel", name := "byteAt", desc := "(I)I" } : Jvm.MethodName) prog_12_method_6_code (2 : Nat) (Option.some Jvm.ClassFile.FieldType.int)) ∈ lw_all := lw_g (lw_at lw_m8 129 rfl) rfl
theorem q2073 : (Jvm.Cond.methodLink "OpcodeForgeModel" (129 : Nat) ({ cls := "OpcodeForgeModel", name := "isBlank", desc := "(I)Z" } : Jvm.MethodName)) ∈ lw_all := lw_g (lw_at lw_m8 130 rfl) rfl
theorem q2074 : (Jvm.Cond.privateMethod ({ cls := "OpcodeForgeModel", name := "isBlank", desc := "(I)Z" } : Jvm.MethodName)) ∈ lw_tbl := lw_at lw_m8 131 rfl
theorem q2075 : (Jvm.Cond.instanceMethod ({ cls := "OpcodeForgeModel", name := "isBlank", desc := "(I)Z" } : Jvm.MethodName)) ∈ lw_all := lw_g (lw_at lw_m8 132 rfl) rfl
theorem q2076 : (Jvm.Cond.code ({ cls := "OpcodeForgeModel", name := "isBlank", desc := "(I)Z" } : Jvm.MethodName) prog_12_method_10_code (2 : Nat) (Option.some Jvm.ClassFile.FieldType.boolean)) ∈ lw_all := lw_g (lw_at lw_m8 133 rfl) rfl
theorem q2077 : (Jvm.Cond.methodLink "OpcodeForgeModel" (137 : Nat) ({ cls := "OpcodeForgeModel", name := "isStart", desc := "(I)Z" } : Jvm.MethodName)) ∈ lw_all := lw_g (lw_at lw_m8 134 rfl) rfl
theorem q2078 : (Jvm.Cond.privateMethod ({ cls := "OpcodeForgeModel", name := "isStart", desc := "(I)Z" } : Jvm.MethodName)) ∈ lw_tbl := lw_at lw_m8 135 rfl
theorem q2079 : (Jvm.Cond.instanceMethod ({ cls := "OpcodeForgeModel", name := "isStart", desc := "(I)Z" } : Jvm.MethodName)) ∈ lw_all := lw_g (lw_at lw_m8 136 rfl) rfl
theorem q2080 : (Jvm.Cond.code ({ cls := "OpcodeForgeModel", name := "isStart", desc := "(I)Z" } : Jvm.MethodName) prog_12_method_9_code (3 : Nat) (Option.some Jvm.ClassFile.FieldType.boolean)) ∈ lw_all := lw_g (lw_at lw_m8 137 rfl) rfl
theorem q2081 : (Jvm.Cond.methodLink "OpcodeForgeModel" (119 : Nat) ({ cls := "OpcodeForgeModel", name := "capital", desc := "(I)I" } : Jvm.MethodName)) ∈ lw_all := lw_g (lw_at lw_m8 138 rfl) rfl
theorem q2082 : (Jvm.Cond.privateMethod ({ cls := "OpcodeForgeModel", name := "capital", desc := "(I)I" } : Jvm.MethodName)) ∈ lw_tbl := lw_at lw_m8 139 rfl
theorem q2083 : (Jvm.Cond.instanceMethod ({ cls := "OpcodeForgeModel", name := "capital", desc := "(I)I" } : Jvm.MethodName)) ∈ lw_all := lw_g (lw_at lw_m8 140 rfl) rfl
theorem q2084 : (Jvm.Cond.code ({ cls := "OpcodeForgeModel", name := "capital", desc := "(I)I" } : Jvm.MethodName) prog_12_method_7_code (2 : Nat) (Option.some Jvm.ClassFile.FieldType.int)) ∈ lw_all := lw_g (lw_at lw_m8 141 rfl) rfl
theorem q2085 : (Jvm.Cond.methodLink "OpcodeForgeModel" (143 : Nat) ({ cls := "OpcodeForgeModel", name := "isDigit", desc := "(I)Z" } : Jvm.MethodName)) ∈ lw_all := lw_g (lw_at lw_m8 142 rfl) rfl
theorem q2086 : (Jvm.Cond.privateMethod ({ cls := "OpcodeForgeModel", name := "isDigit", desc := "(I)Z" } : Jvm.MethodName)) ∈ lw_tbl := lw_at lw_m8 143 rfl
theorem q2087 : (Jvm.Cond.instanceMethod ({ cls := "OpcodeForgeModel", name := "isDigit", desc := "(I)Z" } : Jvm.MethodName)) ∈ lw_all := lw_g (lw_at lw_m8 144 rfl) rfl
theorem q2088 : (Jvm.Cond.code ({ cls := "OpcodeForgeModel", name := "isDigit", desc := "(I)Z" } : Jvm.MethodName) prog_12_method_8_code (2 : Nat) (Option.some Jvm.ClassFile.FieldType.boolean)) ∈ lw_all := lw_g (lw_at lw_m8 145 rfl) rfl
theorem q2089 : (Jvm.Cond.constantLong "OpcodeForgeModel" (241 : Nat) (18758 : Int64)) ∈ lw_all := lw_g (lw_at lw_m8 146 rfl) rfl
theorem q2090 : (Jvm.Cond.constantLong "OpcodeForgeModel" (243 : Nat) (1162629957 : Int64)) ∈ lw_all := lw_g (lw_at lw_m8 147 rfl) rfl
theorem q2091 : (Jvm.Cond.constantLong "OpcodeForgeModel" (245 : Nat) (297665841478 : Int64)) ∈ lw_all := lw_g (lw_at lw_m8 148 rfl) rfl
theorem q2092 : (Jvm.Cond.methodLink "OpcodeForgeModel" (622 : Nat) ({ cls := "OpcodeForgeModel", name := "turn", desc := "(IJZ)Z" } : Jvm.MethodName)) ∈ lw_all := lw_g (lw_at lw_m8 149 rfl) rfl
theorem q2093 : (Jvm.Cond.privateMethod ({ cls := "OpcodeForgeModel", name := "turn", desc := "(IJZ)Z" } : Jvm.MethodName)) ∈ lw_tbl := lw_at lw_m8 150 rfl
theorem q2094 : (Jvm.Cond.instanceMethod ({ cls := "OpcodeForgeModel", name := "turn", desc := "(IJZ)Z" } : Jvm.MethodName)) ∈ lw_all := lw_g (lw_at lw_m8 151 rfl) rfl
theorem q2095 : (Jvm.Cond.code ({ cls := "OpcodeForgeModel", name := "turn", desc := "(IJZ)Z" } : Jvm.MethodName) prog_12_method_70_code (6 : Nat) (Option.some Jvm.ClassFile.FieldType.boolean)) ∈ lw_all := lw_g (lw_at lw_m8 152 rfl) rfl
theorem q2096 : (Jvm.Cond.methodLink "OpcodeForgeModel" (393 : Nat) ({ cls := "OpcodeForgeModel", name := "refuse", desc := "()Z" } : Jvm.MethodName)) ∈ lw_all := lw_g (lw_at lw_m8 153 rfl) rfl
theorem q2097 : (Jvm.Cond.privateMethod ({ cls := "OpcodeForgeModel", name := "refuse", desc := "()Z" } : Jvm.MethodName)) ∈ lw_tbl := lw_at lw_m8 154 rfl
theorem q2098 : (Jvm.Cond.instanceMethod ({ cls := "OpcodeForgeModel", name := "refuse", desc := "()Z" } : Jvm.MethodName)) ∈ lw_all := lw_g (lw_at lw_m8 155 rfl) rfl
theorem q2099 : (Jvm.Cond.code ({ cls := "OpcodeForgeModel", name := "refuse", desc := "()Z" } : Jvm.MethodName) prog_12_method_5_code (1 : Nat) (Option.some Jvm.ClassFile.FieldType.boolean)) ∈ lw_all := lw_g (lw_at lw_m8 156 rfl) rfl
theorem q2100 : (Jvm.Cond.methodLink "OpcodeForgeModel" (167 : Nat) ({ cls := "OpcodeForgeModel", name := "next", desc := "()V" } : Jvm.MethodName)) ∈ lw_all := lw_g (lw_at lw_m8 157 rfl) rfl
theorem q2101 : (Jvm.Cond.privateMethod ({ cls := "OpcodeForgeModel", name := "next", desc := "()V" } : Jvm.MethodName)) ∈ lw_tbl := lw_at lw_m8 158 rfl
theorem q2102 : (Jvm.Cond.instanceMethod ({ cls := "OpcodeForgeModel", name := "next", desc := "()V" } : Jvm.MethodName)) ∈ lw_all := lw_g (lw_at lw_m8 159 rfl) rfl
theorem q2103 : (Jvm.Cond.code ({ cls := "OpcodeForgeModel", name := "next", desc := "()V" } : Jvm.MethodName) prog_12_method_11_code (3 : Nat) (Option.none : Option Jvm.ClassFile.FieldType)) ∈ lw_all := lw_g (lw_at lw_m8 160 rfl) rfl
theorem q2104 : (Jvm.Cond.methodLink "OpcodeForgeModel" (140 : Nat) ({ cls := "OpcodeForgeModel", name := "name", desc := "()V" } : Jvm.MethodName)) ∈ lw_all := lw_g (lw_at lw_m8 161 rfl) rfl
theorem q2105 : (Jvm.Cond.privateMethod ({ cls := "OpcodeForgeModel", name := "name", desc := "()V" } : Jvm.MethodName)) ∈ lw_tbl := lw_at lw_m8 162 rfl
theorem q2106 : (Jvm.Cond.instanceMethod ({ cls := "OpcodeForgeModel", name := "name", desc := "()V" } : Jvm.MethodName)) ∈ lw_all := lw_g (lw_at lw_m8 163 rfl) rfl
theorem q2107 : (Jvm.Cond.code ({ cls := "OpcodeForgeModel", name := "name", desc := "()V" } : Jvm.MethodName) prog_12_method_12_code (4 : Nat) (Option.none : Option Jvm.ClassFile.FieldType)) ∈ lw_all := lw_g (lw_at lw_m8 164 rfl) rfl
theorem q2108 : (Jvm.Cond.constantLong "OpcodeForgeModel" (160 : Nat) (16710 : Int64)) ∈ lw_all := lw_g (lw_at lw_m8 165 rfl) rfl
theorem q2109 : (Jvm.Cond.constantLong "OpcodeForgeModel" (162 : Nat) (4277799 : Int64)) ∈ lw_all := lw_g (lw_at lw_m8 166 rfl) rfl
theorem q2110 : (Jvm.Cond.methodLink "OpcodeForgeModel" (146 : Nat) ({ cls := "OpcodeForgeModel", name := "digits", desc := "(II)V" } : Jvm.MethodName)) ∈ lw_all := lw_g (lw_at lw_m8 167 rfl) rfl
theorem q2111 : (Jvm.Cond.privateMethod ({ cls := "OpcodeForgeModel", name := "digits", desc := "(II)V" } : Jvm.MethodName)) ∈ lw_tbl := lw_at lw_m8 168 rfl
theorem q2112 : (Jvm.Cond.instanceMethod ({ cls := "OpcodeForgeModel", name := "digits", desc := "(II)V" } : Jvm.MethodName)) ∈ lw_all := lw_g (lw_at lw_m8 169 rfl) rfl
theorem q2113 : (Jvm.Cond.code ({ cls := "OpcodeForgeModel", name := "digits", desc := "(II)V" } : Jvm.MethodName) prog_12_method_14_code (5 : Nat) (Option.none : Option Jvm.ClassFile.FieldType)) ∈ lw_all := lw_g (lw_at lw_m8 170 rfl) rfl
theorem q2114 : (Jvm.Cond.methodLink "OpcodeForgeModel" (164 : Nat) ({ cls := "OpcodeForgeModel", name := "worth", desc := "(I)I" } : Jvm.MethodName)) ∈ lw_all := lw_g (lw_at lw_m8 171 rfl) rfl
theorem q2115 : (Jvm.Cond.privateMethod ({ cls := "OpcodeForgeModel", name := "worth", desc := "(I)I" } : Jvm.MethodName)) ∈ lw_tbl := lw_at lw_m8 172 rfl
theorem q2116 : (Jvm.Cond.instanceMethod ({ cls := "OpcodeForgeModel", name := "worth", desc := "(I)I" } : Jvm.MethodName)) ∈ lw_all := lw_g (lw_at lw_m8 173 rfl) rfl
theorem q2117 : (Jvm.Cond.code ({ cls := "OpcodeForgeModel", name := "worth", desc := "(I)I" } : Jvm.MethodName) prog_12_method_13_code (3 : Nat) (Option.some Jvm.ClassFile.FieldType.int)) ∈ lw_all := lw_g (lw_at lw_m8 174 rfl) rfl
theorem q2118 : (Jvm.Cond.methodLink "OpcodeForgeModel" (153 : Nat) ({ cls := "OpcodeForgeModel", name := "readSign", desc := "(I)V" } : Jvm.MethodName)) ∈ lw_all := lw_g (lw_at lw_m8 175 rfl) rfl
theorem q2119 : (Jvm.Cond.privateMethod ({ cls := "OpcodeForgeModel", name := "readSign", desc := "(I)V" } : Jvm.MethodName)) ∈ lw_tbl := lw_at lw_m8 176 rfl
theorem q2120 : (Jvm.Cond.instanceMethod ({ cls := "OpcodeForgeModel", name := "readSign", desc := "(I)V" } : Jvm.MethodName)) ∈ lw_all := lw_g (lw_at lw_m8 177 rfl) rfl
theorem q2121 : (Jvm.Cond.code ({ cls := "OpcodeForgeModel", name := "readSign", desc := "(I)V" } : Jvm.MethodName) prog_12_method_15_code (4 : Nat) (Option.none : Option Jvm.ClassFile.FieldType)) ∈ lw_all := lw_g (lw_at lw_m8 178 rfl) rfl
theorem q2122 : (Jvm.Cond.methodLink "OpcodeForgeModel" (390 : Nat) ({ cls := "OpcodeForgeModel", name := "isSign", desc := "(I)Z" } : Jvm.MethodName)) ∈ lw_all := lw_g (lw_at lw_m8 179 rfl) rfl
theorem q2123 : (Jvm.Cond.privateMethod ({ cls := "OpcodeForgeModel", name := "isSign", desc := "(I)Z" } : Jvm.MethodName)) ∈ lw_tbl := lw_at lw_m8 180 rfl
theorem q2124 : (Jvm.Cond.instanceMethod ({ cls := "OpcodeForgeModel", name := "isSign", desc := "(I)Z" } : Jvm.MethodName)) ∈ lw_all := lw_g (lw_at lw_m8 181 rfl) rfl
theorem q2125 : (Jvm.Cond.code ({ cls := "OpcodeForgeModel", name := "isSign", desc := "(I)Z" } : Jvm.MethodName) prog_12_method_16_code (2 : Nat) (Option.some Jvm.ClassFile.FieldType.boolean)) ∈ lw_all := lw_g (lw_at lw_m8 182 rfl) rfl
theorem q2126 : (Jvm.Cond.methodLink "OpcodeForgeModel" (561 : Nat) ({ cls := "OpcodeForgeModel", name := "tell", desc := "(IIJI)Z" } : Jvm.MethodName)) ∈ lw_all := lw_g (lw_at lw_m8 183 rfl) rfl
theorem q2127 : (Jvm.Cond.privateMethod ({ cls := "OpcodeForgeModel", name := "tell", desc := "(IIJI)Z" } : Jvm.MethodName)) ∈ lw_tbl := lw_at lw_m8 184 rfl
theorem q2128 : (Jvm.Cond.instanceMethod ({ cls := "OpcodeForgeModel", name := "tell", desc := "(IIJI)Z" } : Jvm.MethodName)) ∈ lw_all := lw_g (lw_at lw_m8 185 rfl) rfl
theorem q2129 : (Jvm.Cond.code ({ cls := "OpcodeForgeModel", name := "tell", desc := "(IIJI)Z" } : Jvm.MethodName) prog_12_method_63_code (6 : Nat) (Option.some Jvm.ClassFile.FieldType.boolean)) ∈ lw_all := lw_g (lw_at lw_m8 186 rfl) rfl
theorem q2130 : (Jvm.Cond.methodLink "OpcodeForgeModel" (416 : Nat) ({ cls := "OpcodeForgeModel", name := "isReserved", desc := "(J)Z" } : Jvm.MethodName)) ∈ lw_all := lw_g (lw_at lw_m8 187 rfl) rfl
theorem q2131 : (Jvm.Cond.privateMethod ({ cls := "OpcodeForgeModel", name := "isReserved", desc := "(J)Z" } : Jvm.MethodName)) ∈ lw_tbl := lw_at lw_m8 188 rfl
theorem q2132 : (Jvm.Cond.instanceMethod ({ cls := "OpcodeForgeModel", name := "isReserved", desc := "(J)Z" } : Jvm.MethodName)) ∈ lw_all := lw_g (lw_at lw_m8 189 rfl) rfl
theorem q2133 : (Jvm.Cond.code ({ cls := "OpcodeForgeModel", name := "isReserved", desc := "(J)Z" } : Jvm.MethodName) prog_12_method_21_code (3 : Nat) (Option.some Jvm.ClassFile.FieldType.boolean)) ∈ lw_all := lw_g (lw_at lw_m8 190 rfl) rfl
theorem q2134 : (Jvm.Cond.methodLink "OpcodeForgeModel" (217 : Nat) ({ cls := "OpcodeForgeModel", name := "isRegister", desc := "(J)Z" } : Jvm.MethodName)) ∈ lw_all := lw_g (lw_at lw_m8 191 rfl) rfl
theorem q2135 : (Jvm.Cond.privateMethod ({ cls := "OpcodeForgeModel", name := "isRegister", desc := "(J)Z" } : Jvm.MethodName)) ∈ lw_tbl := lw_at lw_m8 192 rfl
theorem q2136 : (Jvm.Cond.instanceMethod ({ cls := "OpcodeForgeModel", name := "isRegister", desc := "(J)Z" } : Jvm.MethodName)) ∈ lw_all := lw_g (lw_at lw_m8 193 rfl) rfl
theorem q2137 : (Jvm.Cond.code ({ cls := "OpcodeForgeModel", name := "isRegister", desc := "(J)Z" } : Jvm.MethodName) prog_12_method_20_code (3 : Nat) (Option.some Jvm.ClassFile.FieldType.boolean)) ∈ lw_all := lw_g (lw_at lw_m8 194 rfl) rfl
theorem q2138 : (Jvm.Cond.constantLong "OpcodeForgeModel" (173 : Nat) (65 : Int64)) ∈ lw_all := lw_g (lw_at lw_m8 195 rfl) rfl
theorem q2139 : (Jvm.Cond.constantLong "OpcodeForgeModel" (175 : Nat) (66 : Int64)) ∈ lw_all := lw_g (lw_at lw_m8 196 rfl) rfl
theorem q2140 : (Jvm.Cond.constantLong "OpcodeForgeModel" (177 : Nat) (67 : Int64)) ∈ lw_all := lw_g (lw_at lw_m8 197 rfl) rfl
theorem q2141 : (Jvm.Cond.constantLong "OpcodeForgeModel" (179 : Nat) (68 : Int64)) ∈ lw_all := lw_g (lw_at lw_m8 198 rfl) rfl
theorem q2142 : (Jvm.Cond.constantLong "OpcodeForgeModel" (181 : Nat) (69 : Int64)) ∈ lw_all := lw_g (lw_at lw_m8 199 rfl) rfl
theorem q2143 : (Jvm.Cond.constantLong "OpcodeForgeModel" (183 : Nat) (72 : Int64)) ∈ lw_all := lw_g (lw_at lw_m8 200 rfl) rfl
theorem q2144 : (Jvm.Cond.constantLong "OpcodeForgeModel" (185 : Nat) (76 : Int64)) ∈ lw_all := lw_g (lw_at lw_m8 201 rfl) rfl
theorem q2145 : (Jvm.Cond.constantLong "OpcodeForgeModel" (187 : Nat) (73 : Int64)) ∈ lw_all := lw_g (lw_at lw_m8 202 rfl) rfl
theorem q2146 : (Jvm.Cond.constantLong "OpcodeForgeModel" (189 : Nat) (82 : Int64)) ∈ lw_all := lw_g (lw_at lw_m8 203 rfl) rfl
theorem q2147 : (Jvm.Cond.constantLong "OpcodeForgeModel" (191 : Nat) (16963 : Int64)) ∈ lw_all := lw_g (lw_at lw_m8 204 rfl) rfl
theorem q2148 : (Jvm.Cond.constantLong "OpcodeForgeModel" (193 : Nat) (17477 : Int64)) ∈ lw_all := lw_g (lw_at lw_m8 205 rfl) rfl
theorem q2149 : (Jvm.Cond.constantLong "OpcodeForgeModel" (195 : Nat) (18508 : Int64)) ∈ lw_all := lw_g (lw_at lw_m8 206 rfl) rfl
theorem q2150 : (Jvm.Cond.constantLong "OpcodeForgeModel" (197 : Nat) (21328 : Int64)) ∈ lw_all := lw_g (lw_at lw_m8 207 rfl) rfl
theorem q2151 : (Jvm.Cond.constantLong "OpcodeForgeModel" (199 : Nat) (18776 : Int64)) ∈ lw_all := lw_g (lw_at lw_m8 208 rfl) rfl
theorem q2152 : (Jvm.Cond.constantLong "OpcodeForgeModel" (201 : Nat) (18777 : Int64)) ∈ lw_all := lw_g (lw_at lw_m8 209 rfl) rfl
theorem q2153 : (Jvm.Cond.constantLong "OpcodeForgeModel" (203 : Nat) (20058 : Int64)) ∈ lw_all := lw_g (lw_at lw_m8 210 rfl) rfl
theorem q2154 : (Jvm.Cond.constantLong "OpcodeForgeModel" (205 : Nat) (90 : Int64)) ∈ lw_all := lw_g (lw_at lw_m8 211 rfl) rfl
theorem q2155 : (Jvm.Cond.constantLong "OpcodeForgeModel" (207 : Nat) (20035 : Int64)) ∈ lw_all := lw_g (lw_at lw_m8 212 rfl) rfl
theorem q2156 : (Jvm.Cond.constantLong "OpcodeForgeModel" (209 : Nat) (20559 : Int64)) ∈ lw_all := lw_g (lw_at lw_m8 213 rfl) rfl
theorem q2157 : (Jvm.Cond.constantLong "OpcodeForgeModel" (211 : Nat) (20549 : Int64)) ∈ lw_all := lw_g (lw_at lw_m8 214 rfl) rfl
theorem q2158 : (Jvm.Cond.constantLong "OpcodeForgeModel" (213 : Nat) (80 : Int64)) ∈ lw_all := lw_g (lw_at lw_m8 215 rfl) rfl
theorem q2159 : (Jvm.Cond.constantLong "OpcodeForgeModel" (215 : Nat) (77 : Int64)) ∈ lw_all := lw_g (lw_at lw_m8 216 rfl) rfl
theorem q2160 : (Jvm.Cond.methodLink "OpcodeForgeModel" (221 : Nat) ({ cls := "OpcodeForgeModel", name := "isStatement", desc := "(J)Z" } : Jvm.MethodName)) ∈ lw_all := lw_g (lw_at lw_m8 217 rfl) rfl
theorem q2161 : (Jvm.Cond.privateMethod ({ cls := "OpcodeForgeModel", name := "isStatement", desc := "(J)Z" } : Jvm.MethodName)) ∈ lw_tbl := lw_at lw_m8 218 rfl
theorem q2162 : (Jvm.Cond.instanceMethod ({ cls := "OpcodeForgeModel", name := "isStatement", desc := "(J)Z" } : Jvm.MethodName)) ∈ lw_all := lw_g (lw_at lw_m8 219 rfl) rfl
theorem q2163 : (Jvm.Cond.code ({ cls := "OpcodeForgeModel", name := "isStatement", desc := "(J)Z" } : Jvm.MethodName) prog_12_method_22_code (3 : Nat) (Option.some Jvm.ClassFile.FieldType.boolean)) ∈ lw_all := lw_g (lw_at lw_m8 220 rfl) rfl
theorem q2164 : (Jvm.Cond.constantLong "OpcodeForgeModel" (233 : Nat) (5198407 : Int64)) ∈ lw_all := lw_g (lw_at lw_m8 221 rfl) rfl
theorem q2165 : (Jvm.Cond.constantLong "OpcodeForgeModel" (235 : Nat) (17474 : Int64)) ∈ lw_all := lw_g (lw_at lw_m8 222 rfl) rfl
theorem q2166 : (Jvm.Cond.constantLong "OpcodeForgeModel" (237 : Nat) (17495 : Int64)) ∈ lw_all := lw_g (lw_at lw_m8 223 rfl) rfl
theorem q2167 : (Jvm.Cond.constantLong "OpcodeForgeModel" (239 : Nat) (17491 : Int64)) ∈ lw_all := lw_g (lw_at lw_m8 224 rfl) rfl
theorem q2168 : (Jvm.Cond.methodLink "OpcodeForgeModel" (224 : Nat) ({ cls := "OpcodeForgeModel", name := "plain", desc := "(J)I" } : Jvm.MethodName)) ∈ lw_all := lw_g (lw_at lw_m8 225 rfl) rfl
theorem q2169 : (Jvm.Cond.privateMethod ({ cls := "OpcodeForgeModel", name := "plain", desc := "(J)I" } : Jvm.MethodName)) ∈ lw_tbl := lw_at lw_m8 226 rfl
theorem q2170 : (Jvm.Cond.instanceMethod ({ cls := "OpcodeForgeModel", name := "plain", desc := "(J)I" } : Jvm.MethodName)) ∈ lw_all := lw_g (lw_at lw_m8 227 rfl) rfl
theorem q2171 : (Jvm.Cond.code ({ cls := "OpcodeForgeModel", name := "plain", desc := "(J)I" } : Jvm.MethodName) prog_12_method_24_code (3 : Nat) (Option.some Jvm.ClassFile.FieldType.int)) ∈ lw_all := lw_g (lw_at lw_m8 228 rfl) rfl
theorem q2172 : (Jvm.Cond.constantLong "OpcodeForgeModel" (313 : Nat) (5132112 : Int64)) ∈ lw_all := lw_g (lw_at lw_m8 229 rfl) rfl
theorem q2173 : (Jvm.Cond.constantLong "OpcodeForgeModel" (315 : Nat) (1380729665 : Int64)) ∈ lw_all := lw_g (lw_at lw_m8 230 rfl) rfl
theorem q2174 : (Jvm.Cond.constantLong "OpcodeForgeModel" (317 : Nat) (1381122881 : Int64)) ∈ lw_all := lw_g (lw_at lw_m8 231 rfl) rfl
theorem q2175 : (Jvm.Cond.constantLong "OpcodeForgeModel" (319 : Nat) (5393473 : Int64)) ∈ lw_all := lw_g (lw_at lw_m8 232 rfl) rfl
theorem q2176 : (Jvm.Cond.constantLong "OpcodeForgeModel" (321 : Nat) (5395009 : Int64)) ∈ lw_all := lw_g (lw_at lw_m8 233 rfl) rfl
theorem q2177 : (Jvm.Cond.constantLong "OpcodeForgeModel" (323 : Nat) (4473153 : Int64)) ∈ lw_all := lw_g (lw_at lw_m8 234 rfl) rfl
theorem q2178 : (Jvm.Cond.constantLong "OpcodeForgeModel" (325 : Nat) (4411468 : Int64)) ∈ lw_all := lw_g (lw_at lw_m8 235 rfl) rfl
theorem q2179 : (Jvm.Cond.constantLong "OpcodeForgeModel" (327 : Nat) (5456710 : Int64)) ∈ lw_all := lw_g (lw_at lw_m8 236 rfl) rfl
theorem q2180 : (Jvm.Cond.constantLong "OpcodeForgeModel" (329 : Nat) (4408134 : Int64)) ∈ lw_all := lw_g (lw_at lw_m8 237 rfl) rfl
theorem q2181 : (Jvm.Cond.constantLong "OpcodeForgeModel" (331 : Nat) (1212238932 : Int64)) ∈ lw_all := lw_g (lw_at lw_m8 238 rfl) rfl
theorem q2182 : (Jvm.Cond.constantLong "OpcodeForgeModel" (333 : Nat) (4544600 : Int64)) ∈ lw_all := lw_g (lw_at lw_m8 239 rfl) rfl
theorem q2183 : (Jvm.Cond.constantLong "OpcodeForgeModel" (335 : Nat) (17481 : Int64)) ∈ lw_all := lw_g (lw_at lw_m9 0 rfl) rfl
theorem q2184 : (Jvm.Cond.constantLong "OpcodeForgeModel" (337 : Nat) (17737 : Int64)) ∈ lw_all := lw_g (lw_at lw_m9 1 rfl) rfl
theorem q2185 : (Jvm.Cond.constantLong "OpcodeForgeModel" (339 : Nat) (5129543 : Int64)) ∈ lw_all := lw_g (lw_at lw_m9 2 rfl) rfl
theorem q2186 : (Jvm.Cond.constantLong "OpcodeForgeModel" (341 : Nat) (1380275278 : Int64)) ∈ lw_all := lw_g (lw_at lw_m9 3 rfl) rfl
theorem q2187 : (Jvm.Cond.constantLong "OpcodeForgeModel" (343 : Nat) (1380275273 : Int64)) ∈ lw_all := lw_g (lw_at lw_m9 4 rfl) rfl
theorem q2188 : (Jvm.Cond.constantLong "OpcodeForgeModel" (345 : Nat) (5395012 : Int64)) ∈ lw_all := lw_g (lw_at lw_m9 5 rfl) rfl
theorem q2189 : (Jvm.Cond.constantLong "OpcodeForgeModel" (347 : Nat) (5393476 : Int64)) ∈ lw_all := lw_g (lw_at lw_m9 6 rfl) rfl
theorem q2190 : (Jvm.Cond.constantLong "OpcodeForgeModel" (349 : Nat) (4998217 : Int64)) ∈ lw_all := lw_g (lw_at lw_m9 7 rfl) rfl
theorem q2191 : (Jvm.Cond.constantLong "OpcodeForgeModel" (351 : Nat) (4411465 : Int64)) ∈ lw_all := lw_g (lw_at lw_m9 8 rfl) rfl
theorem q2192 : (Jvm.Cond.constantLong "OpcodeForgeModel" (353 : Nat) (4804169 : Int64)) ∈ lw_all := lw_g (lw_at lw_m9 9 rfl) rfl
theorem q2193 : (Jvm.Cond.constantLong "OpcodeForgeModel" (355 : Nat) (1330992201 : Int64)) ∈ lw_all := lw_g (lw_at lw_m9 10 rfl) rfl
theorem q2194 : (Jvm.Cond.constantLong "OpcodeForgeModel" (357 : Nat) (4998212 : Int64)) ∈ lw_all := lw_g (lw_at lw_m9 11 rfl) rfl
theorem q2195 : (Jvm.Cond.constantLong "OpcodeForgeModel" (359 : Nat) (4411460 : Int64)) ∈ lw_all := lw_g (lw_at lw_m9 12 rfl) rfl
theorem q2196 : (Jvm.Cond.constantLong "OpcodeForgeModel" (361 : Nat) (4804164 : Int64)) ∈ lw_all := lw_g (lw_at lw_m9 13 rfl) rfl
theorem q2197 : (Jvm.Cond.constantLong "OpcodeForgeModel" (363 : Nat) (1330992196 : Int64)) ∈ lw_all := lw_g (lw_at lw_m9 14 rfl) rfl
theorem q2198 : (Jvm.Cond.constantLong "OpcodeForgeModel" (365 : Nat) (1279543634 : Int64)) ∈ lw_all := lw_g (lw_at lw_m9 15 rfl) rfl
theorem q2199 : (Jvm.Cond.constantLong "OpcodeForgeModel" (367 : Nat) (1129335122 : Int64)) ∈ lw_all := lw_g (lw_at lw_m9 16 rfl) rfl
theorem q2200 : (Jvm.Cond.constantLong "OpcodeForgeModel" (369 : Nat) (1229867346 : Int64)) ∈ lw_all := lw_g (lw_at lw_m9 17 rfl) rfl
theorem q2201 : (Jvm.Cond.constantLong "OpcodeForgeModel" (371 : Nat) (1330923858 : Int64)) ∈ lw_all := lw_g (lw_at lw_m9 18 rfl) rfl
theorem q2202 : (Jvm.Cond.constantLong "OpcodeForgeModel" (373 : Nat) (1279542354 : Int64)) ∈ lw_all := lw_g (lw_at lw_m9 19 rfl) rfl
theorem q2203 : (Jvm.Cond.constantLong "OpcodeForgeModel" (375 : Nat) (1129333842 : Int64)) ∈ lw_all := lw_g (lw_at lw_m9 20 rfl) rfl
theorem q2204 : (Jvm.Cond.constantLong "OpcodeForgeModel" (377 : Nat) (1229866066 : Int64)) ∈ lw_all := lw_g (lw_at lw_m9 21 rfl) rfl
theorem q2205 : (Jvm.Cond.constantLong "OpcodeForgeModel" (379 : Nat) (1330922578 : Int64)) ∈ lw_all := lw_g (lw_at lw_m9 22 rfl) rfl
theorem q2206 : (Jvm.Cond.methodLink "OpcodeForgeModel" (228 : Nat) ({ cls := "OpcodeForgeModel", name := "isMany", desc := "(J)Z" } : Jvm.MethodName)) ∈ lw_all := lw_g (lw_at lw_m9 23 rfl) rfl
theorem q2207 : (Jvm.Cond.privateMethod ({ cls := "OpcodeForgeModel", name := "isMany", desc := "(J)Z" } : Jvm.MethodName)) ∈ lw_tbl := lw_at lw_m9 24 rfl
theorem q2208 : (Jvm.Cond.instanceMethod ({ cls := "OpcodeForgeModel", name := "isMany", desc := "(J)Z" } : Jvm.MethodName)) ∈ lw_all := lw_g (lw_at lw_m9 25 rfl) rfl
theorem q2209 : (Jvm.Cond.code ({ cls := "OpcodeForgeModel", name := "isMany", desc := "(J)Z" } : Jvm.MethodName) prog_12_method_23_code (3 : Nat) (Option.some Jvm.ClassFile.FieldType.boolean)) ∈ lw_all := lw_g (lw_at lw_m9 26 rfl) rfl
theorem q2210 : (Jvm.Cond.constantLong "OpcodeForgeModel" (247 : Nat) (17752 : Int64)) ∈ lw_all := lw_g (lw_at lw_m9 27 rfl) rfl
theorem q2211 : (Jvm.Cond.constantLong "OpcodeForgeModel" (249 : Nat) (1145720410 : Int64)) ∈ lw_all := lw_g (lw_at lw_m9 28 rfl) rfl
theorem q2212 : (Jvm.Cond.constantLong "OpcodeForgeModel" (251 : Nat) (19026 : Int64)) ∈ lw_all := lw_g (lw_at lw_m9 29 rfl) rfl
theorem q2213 : (Jvm.Cond.constantLong "OpcodeForgeModel" (253 : Nat) (19524 : Int64)) ∈ lw_all := lw_g (lw_at lw_m9 30 rfl) rfl
theorem q2214 : (Jvm.Cond.constantLong "OpcodeForgeModel" (255 : Nat) (4804163 : Int64)) ∈ lw_all := lw_g (lw_at lw_m9 31 rfl) rfl
theorem q2215 : (Jvm.Cond.constantLong "OpcodeForgeModel" (257 : Nat) (4474179 : Int64)) ∈ lw_all := lw_g (lw_at lw_m9 32 rfl) rfl
theorem q2216 : (Jvm.Cond.constantLong "OpcodeForgeModel" (259 : Nat) (4277316 : Int64)) ∈ lw_all := lw_g (lw_at lw_m9 33 rfl) rfl
theorem q2217 : (Jvm.Cond.constantLong "OpcodeForgeModel" (261 : Nat) (4277315 : Int64)) ∈ lw_all := lw_g (lw_at lw_m9 34 rfl) rfl
theorem q2218 : (Jvm.Cond.constantLong "OpcodeForgeModel" (263 : Nat) (5461314 : Int64)) ∈ lw_all := lw_g (lw_at lw_m9 35 rfl) rfl
theorem q2219 : (Jvm.Cond.constantLong "OpcodeForgeModel" (265 : Nat) (5456451 : Int64)) ∈ lw_all := lw_g (lw_at lw_m9 36 rfl) rfl
theorem q2220 : (Jvm.Cond.constantLong "OpcodeForgeModel" (267 : Nat) (4279876 : Int64)) ∈ lw_all := lw_g (lw_at lw_m9 37 rfl) rfl
theorem q2221 : (Jvm.Cond.constantLong "OpcodeForgeModel" (269 : Nat) (5787474 : Int64)) ∈ lw_all := lw_g (lw_at lw_m9 38 rfl) rfl
theorem q2222 : (Jvm.Cond.constantLong "OpcodeForgeModel" (271 : Nat) (20306 : Int64)) ∈ lw_all := lw_g (lw_at lw_m9 39 rfl) rfl
theorem q2223 : (Jvm.Cond.constantLong "OpcodeForgeModel" (273 : Nat) (17232 : Int64)) ∈ lw_all := lw_g (lw_at lw_m9 40 rfl) rfl
theorem q2224 : (Jvm.Cond.constantLong "OpcodeForgeModel" (275 : Nat) (5391700 : Int64)) ∈ lw_all := lw_g (lw_at lw_m9 41 rfl) rfl
theorem q2225 : (Jvm.Cond.constantLong "OpcodeForgeModel" (277 : Nat) (5263184 : Int64)) ∈ lw_all := lw_g (lw_at lw_m9 42 rfl) rfl
theorem q2226 : (Jvm.Cond.constantLong "OpcodeForgeModel" (279 : Nat) (1347769160 : Int64)) ∈ lw_all := lw_g (lw_at lw_m9 43 rfl) rfl
theorem q2227 : (Jvm.Cond.constantLong "OpcodeForgeModel" (281 : Nat) (19024 : Int64)) ∈ lw_all := lw_g (lw_at lw_m9 44 rfl) rfl
theorem q2228 : (Jvm.Cond.constantLong "OpcodeForgeModel" (283 : Nat) (1128352844 : Int64)) ∈ lw_all := lw_g (lw_at lw_m9 45 rfl) rfl
theorem q2229 : (Jvm.Cond.constantLong "OpcodeForgeModel" (285 : Nat) (5395284 : Int64)) ∈ lw_all := lw_g (lw_at lw_m9 46 rfl) rfl
theorem q2230 : (Jvm.Cond.constantLong "OpcodeForgeModel" (287 : Nat) (5199188 : Int64)) ∈ lw_all := lw_g (lw_at lw_m9 47 rfl) rfl
theorem q2231 : (Jvm.Cond.constantLong "OpcodeForgeModel" (289 : Nat) (18766 : Int64)) ∈ lw_all := lw_g (lw_at lw_m9 48 rfl) rfl
theorem q2232 : (Jvm.Cond.constantLong "OpcodeForgeModel" (291 : Nat) (5393475 : Int64)) ∈ lw_all := lw_g (lw_at lw_m9 49 rfl) rfl
theorem q2233 : (Jvm.Cond.constantLong "OpcodeForgeModel" (293 : Nat) (5395011 : Int64)) ∈ lw_all := lw_g (lw_at lw_m9 50 rfl) rfl
theorem q2234 : (Jvm.Cond.constantLong "OpcodeForgeModel" (295 : Nat) (21068 : Int64)) ∈ lw_all := lw_g (lw_at lw_m9 51 rfl) rfl
theorem q2235 : (Jvm.Cond.constantLong "OpcodeForgeModel" (297 : Nat) (21074 : Int64)) ∈ lw_all := lw_g (lw_at lw_m9 52 rfl) rfl
theorem q2236 : (Jvm.Cond.constantLong "OpcodeForgeModel" (299 : Nat) (5459009 : Int64)) ∈ lw_all := lw_g (lw_at lw_m9 53 rfl) rfl
theorem q2237 : (Jvm.Cond.constantLong "OpcodeForgeModel" (301 : Nat) (5460545 : Int64)) ∈ lw_all := lw_g (lw_at lw_m9 54 rfl) rfl
theorem q2238 : (Jvm.Cond.constantLong "OpcodeForgeModel" (303 : Nat) (5460556 : Int64)) ∈ lw_all := lw_g (lw_at lw_m9 55 rfl) rfl
theorem q2239 : (Jvm.Cond.constantLong "OpcodeForgeModel" (305 : Nat) (4344148 : Int64)) ∈ lw_all := lw_g (lw_at lw_m9 56 rfl) rfl
theorem q2240 : (Jvm.Cond.constantLong "OpcodeForgeModel" (307 : Nat) (5391699 : Int64)) ∈ lw_all := lw_g (lw_at lw_m9 57 rfl) rfl
theorem q2241 : (Jvm.Cond.constantLong "OpcodeForgeModel" (309 : Nat) (5457236 : Int64)) ∈ lw_all := lw_g (lw_at lw_m9 58 rfl) rfl
theorem q2242 : (Jvm.Cond.constantLong "OpcodeForgeModel" (311 : Nat) (18765 : Int64)) ∈ lw_all := lw_g (lw_at lw_m9 59 rfl) rfl
theorem q2243 : (Jvm.Cond.constantLong "OpcodeForgeModel" (231 : Nat) (4542805 : Int64)) ∈ lw_all := lw_g (lw_at lw_m9 60 rfl) rfl
theorem q2244 : (Jvm.Cond.methodLink "OpcodeForgeModel" (419 : Nat) ({ cls := "OpcodeForgeModel", name := "find", desc := "(II)I" } : Jvm.MethodName)) ∈ lw_all := lw_g (lw_at lw_m9 61 rfl) rfl
theorem q2245 : (Jvm.Cond.privateMethod ({ cls := "OpcodeForgeModel", name := "find", desc := "(II)I" } : Jvm.MethodName)) ∈ lw_tbl := lw_at lw_m9 62 rfl
theorem q2246 : (Jvm.Cond.instanceMethod ({ cls := "OpcodeForgeModel", name := "find", desc := "(II)I" } : Jvm.MethodName)) ∈ lw_all := lw_g (lw_at lw_m9 63 rfl) rfl
theorem q2247 : (Jvm.Cond.code ({ cls := "OpcodeForgeModel", name := "find", desc := "(II)I" } : Jvm.MethodName) prog_12_method_18_code (6 : Nat) (Option.some Jvm.ClassFile.FieldType.int)) ∈ lw_all := lw_g (lw_at lw_m9 64 rfl) rfl
theorem q2248 : (Jvm.Cond.methodLink "OpcodeForgeModel" (577 : Nat) ({ cls := "OpcodeForgeModel", name := "addName", desc := "(III)V" } : Jvm.MethodName)) ∈ lw_all := lw_g (lw_at lw_m9 65 rfl) rfl
theorem q2249 : (Jvm.Cond.privateMethod ({ cls := "OpcodeForgeModel", name := "addName", desc := "(III)V" } : Jvm.MethodName)) ∈ lw_tbl := lw_at lw_m9 66 rfl
theorem q2250 : (Jvm.Cond.instanceMethod ({ cls := "OpcodeForgeModel", name := "addName", desc := "(III)V" } : Jvm.MethodName)) ∈ lw_all := lw_g (lw_at lw_m9 67 rfl) rfl
theorem q2251 : (Jvm.Cond.code ({ cls := "OpcodeForgeModel", name := "addName", desc := "(III)V" } : Jvm.MethodName) prog_12_method_19_code (5 : Nat) (Option.none : Option Jvm.ClassFile.FieldType)) ∈ lw_all := lw_g (lw_at lw_m9 68 rfl) rfl
theorem q2252 : (Jvm.Cond.methodLink "OpcodeForgeModel" (565 : Nat) ({ cls := "OpcodeForgeModel", name := "equal", desc := "(IIJ)Z" } : Jvm.MethodName)) ∈ lw_all := lw_g (lw_at lw_m9 69 rfl) rfl
theorem q2253 : (Jvm.Cond.privateMethod ({ cls := "OpcodeForgeModel", name := "equal", desc := "(IIJ)Z" } : Jvm.MethodName)) ∈ lw_tbl := lw_at lw_m9 70 rfl
theorem q2254 : (Jvm.Cond.instanceMethod ({ cls := "OpcodeForgeModel", name := "equal", desc := "(IIJ)Z" } : Jvm.MethodName)) ∈ lw_all := lw_g (lw_at lw_m9 71 rfl) rfl
theorem q2255 : (Jvm.Cond.code ({ cls := "OpcodeForgeModel", name := "equal", desc := "(IIJ)Z" } : Jvm.MethodName) prog_12_method_64_code (5 : Nat) (Option.some Jvm.ClassFile.FieldType.boolean)) ∈ lw_all := lw_g (lw_at lw_m9 72 rfl) rfl
theorem q2256 : (Jvm.Cond.methodLink "OpcodeForgeModel" (448 : Nat) ({ cls := "OpcodeForgeModel", name := "expression", desc := "(Z)Z" } : Jvm.MethodName)) ∈ lw_all := lw_g (lw_at lw_m9 73 rfl) rfl
theorem q2257 : (Jvm.Cond.privateMethod ({ cls := "OpcodeForgeModel", name := "expression", desc := "(Z)Z" } : Jvm.MethodName)) ∈ lw_tbl := lw_at lw_m9 74 rfl
theorem q2258 : (Jvm.Cond.instanceMethod ({ cls := "OpcodeForgeModel", name := "expression", desc := "(Z)Z" } : Jvm.MethodName)) ∈ lw_all := lw_g (lw_at lw_m9 75 rfl) rfl
theorem q2259 : (Jvm.Cond.code ({ cls := "OpcodeForgeModel", name := "expression", desc := "(Z)Z" } : Jvm.MethodName) prog_12_method_28_code (3 : Nat) (Option.some Jvm.ClassFile.FieldType.boolean)) ∈ lw_all := lw_g (lw_at lw_m9 76 rfl) rfl
theorem q2260 : (Jvm.Cond.methodLink "OpcodeForgeModel" (397 : Nat) ({ cls := "OpcodeForgeModel", name := "push", desc := "(I)V" } : Jvm.MethodName)) ∈ lw_all := lw_g (lw_at lw_m9 77 rfl) rfl
theorem q2261 : (Jvm.Cond.privateMethod ({ cls := "OpcodeForgeModel", name := "push", desc := "(I)V" } : Jvm.MethodName)) ∈ lw_tbl := lw_at lw_m9 78 rfl
theorem q2262 : (Jvm.Cond.instanceMethod ({ cls := "OpcodeForgeModel", name := "push", desc := "(I)V" } : Jvm.MethodName)) ∈ lw_all := lw_g (lw_at lw_m9 79 rfl) rfl
theorem q2263 : (Jvm.Cond.code ({ cls := "OpcodeForgeModel", name := "push", desc := "(I)V" } : Jvm.MethodName) prog_12_method_26_code (2 : Nat) (Option.none : Option Jvm.ClassFile.FieldType)) ∈ lw_all := lw_g (lw_at lw_m9 80 rfl) rfl
theorem q2264 : (Jvm.Cond.methodLink "OpcodeForgeModel" (400 : Nat) ({ cls := "OpcodeForgeModel", name := "operand", desc := "(Z)Z" } : Jvm.MethodName)) ∈ lw_all := lw_g (lw_at lw_m9 81 rfl) rfl
theorem q2265 : (Jvm.Cond.privateMethod ({ cls := "OpcodeForgeModel", name := "operand", desc := "(Z)Z" } : Jvm.MethodName)) ∈ lw_tbl := lw_at lw_m9 82 rfl
theorem q2266 : (Jvm.Cond.instanceMethod ({ cls := "OpcodeForgeModel", name := "operand", desc := "(Z)Z" } : Jvm.MethodName)) ∈ lw_all := lw_g (lw_at lw_m9 83 rfl) rfl
theorem q2267 : (Jvm.Cond.code ({ cls := "OpcodeForgeModel", name := "operand", desc := "(Z)Z" } : Jvm.MethodName) prog_12_method_29_code (4 : Nat) (Option.some Jvm.ClassFile.FieldType.boolean)) ∈ lw_all := lw_g (lw_at lw_m9 84 rfl) rfl
theorem q2268 : (Jvm.Cond.methodLink "OpcodeForgeModel" (423 : Nat) ({ cls := "OpcodeForgeModel", name := "unaries", desc := "(Z)Z" } : Jvm.MethodName)) ∈ lw_all := lw_g (lw_at lw_m9 85 rfl) rfl
theorem q2269 : (Jvm.Cond.privateMethod ({ cls := "OpcodeForgeModel", name := "unaries", desc := "(Z)Z" } : Jvm.MethodName)) ∈ lw_tbl := lw_at lw_m9 86 rfl
theorem q2270 : (Jvm.Cond.instanceMethod ({ cls := "OpcodeForgeModel", name := "unaries", desc := "(Z)Z" } : Jvm.MethodName)) ∈ lw_all := lw_g (lw_at lw_m9 87 rfl) rfl
theorem q2271 : (Jvm.Cond.code ({ cls := "OpcodeForgeModel", name := "unaries", desc := "(Z)Z" } : Jvm.MethodName) prog_12_method_30_code (2 : Nat) (Option.some Jvm.ClassFile.FieldType.boolean)) ∈ lw_all := lw_g (lw_at lw_m9 88 rfl) rfl
theorem q2272 : (Jvm.Cond.methodLink "OpcodeForgeModel" (407 : Nat) ({ cls := "OpcodeForgeModel", name := "apply", desc := "(Z)Z" } : Jvm.MethodName)) ∈ lw_all := lw_g (lw_at lw_m9 89 rfl) rfl
theorem q2273 : (Jvm.Cond.privateMethod ({ cls := "OpcodeForgeModel", name := "apply", desc := "(Z)Z" } : Jvm.MethodName)) ∈ lw_tbl := lw_at lw_m9 90 rfl
theorem q2274 : (Jvm.Cond.instanceMethod ({ cls := "OpcodeForgeModel", name := "apply", desc := "(Z)Z" } : Jvm.MethodName)) ∈ lw_all := lw_g (lw_at lw_m9 91 rfl) rfl
theorem q2275 : (Jvm.Cond.code ({ cls := "OpcodeForgeModel", name := "apply", desc := "(Z)Z" } : Jvm.MethodName) prog_12_method_27_code (5 : Nat) (Option.some Jvm.ClassFile.FieldType.boolean)) ∈ lw_all := lw_g (lw_at lw_m9 92 rfl) rfl
theorem q2276 : (Jvm.Cond.methodLink "OpcodeForgeModel" (404 : Nat) ({ cls := "OpcodeForgeModel", name := "behind", desc := "(Z)Z" } : Jvm.MethodName)) ∈ lw_all := lw_g (lw_at lw_m9 93 rfl) rfl
theorem q2277 : (Jvm.Cond.privateMethod ({ cls := "OpcodeForgeModel", name := "behind", desc := "(Z)Z" } : Jvm.MethodName)) ∈ lw_tbl := lw_at lw_m9 94 rfl
theorem q2278 : (Jvm.Cond.instanceMethod ({ cls := "OpcodeForgeModel", name := "behind", desc := "(Z)Z" } : Jvm.MethodName)) ∈ lw_all := lw_g (lw_at lw_m9 95 rfl) rfl
theorem q2279 : (Jvm.Cond.code ({ cls := "OpcodeForgeModel", name := "behind", desc := "(Z)Z" } : Jvm.MethodName) prog_12_method_31_code (3 : Nat) (Option.some Jvm.ClassFile.FieldType.boolean)) ∈ lw_all := lw_g (lw_at lw_m9 96 rfl) rfl
theorem q2280 : (Jvm.Cond.methodLink "OpcodeForgeModel" (426 : Nat) ({ cls := "OpcodeForgeModel", name := "rank", desc := "(I)I" } : Jvm.MethodName)) ∈ lw_all := lw_g (lw_at lw_m9 97 rfl) rfl
theorem q2281 : (Jvm.Cond.privateMethod ({ cls := "OpcodeForgeModel", name := "rank", desc := "(I)I" } : Jvm.MethodName)) ∈ lw_tbl := lw_at lw_m9 98 rfl
theorem q2282 : (Jvm.Cond.instanceMethod ({ cls := "OpcodeForgeModel", name := "rank", desc := "(I)I" } : Jvm.MethodName)) ∈ lw_all := lw_g (lw_at lw_m9 99 rfl) rfl
theorem q2283 : (Jvm.Cond.code ({ cls := "OpcodeForgeModel", name := "rank", desc := "(I)I" } : Jvm.MethodName) prog_12_method_25_code (2 : Nat) (Option.some Jvm.ClassFile.FieldType.int)) ∈ lw_all := lw_g (lw_at lw_m9 100 rfl) rfl
theorem q2284 : (Jvm.Cond.methodLink "OpcodeForgeModel" (569 : Nat) ({ cls := "OpcodeForgeModel", name := "statement", desc := "(IJ)Z" } : Jvm.MethodName)) ∈ lw_all := lw_g (lw_at lw_m9 101 rfl) rfl
theorem q2285 : (Jvm.Cond.privateMethod ({ cls := "OpcodeForgeModel", name := "statement", desc := "(IJ)Z" } : Jvm.MethodName)) ∈ lw_tbl := lw_at lw_m9 102 rfl
theorem q2286 : (Jvm.Cond.instanceMethod ({ cls := "OpcodeForgeModel", name := "statement", desc := "(IJ)Z" } : Jvm.MethodName)) ∈ lw_all := lw_g (lw_at lw_m9 103 rfl) rfl
theorem q2287 : (Jvm.Cond.code ({ cls := "OpcodeForgeModel", name := "statement", desc := "(IJ)Z" } : Jvm.MethodName) prog_12_method_65_code (5 : Nat) (Option.some Jvm.ClassFile.FieldType.boolean)) ∈ lw_all := lw_g (lw_at lw_m9 104 rfl) rfl
theorem q2288 : (Jvm.Cond.methodLink "OpcodeForgeModel" (581 : Nat) ({ cls := "OpcodeForgeModel", name := "directive", desc := "(IJ)Z" } : Jvm.MethodName)) ∈ lw_all := lw_g (lw_at lw_m9 105 rfl) rfl
theorem q2289 : (Jvm.Cond.privateMethod ({ cls := "OpcodeForgeModel", name := "directive", desc := "(IJ)Z" } : Jvm.MethodName)) ∈ lw_tbl := lw_at lw_m9 106 rfl
theorem q2290 : (Jvm.Cond.instanceMethod ({ cls := "OpcodeForgeModel", name := "directive", desc := "(IJ)Z" } : Jvm.MethodName)) ∈ lw_all := lw_g (lw_at lw_m9 107 rfl) rfl
theorem q2291 : (Jvm.Cond.code ({ cls := "OpcodeForgeModel", name := "directive", desc := "(IJ)Z" } : Jvm.MethodName) prog_12_method_69_code (5 : Nat) (Option.some Jvm.ClassFile.FieldType.boolean)) ∈ lw_all := lw_g (lw_at lw_m9 108 rfl) rfl
theorem q2292 : (Jvm.Cond.methodLink "OpcodeForgeModel" (615 : Nat) ({ cls := "OpcodeForgeModel", name := "data", desc := "(IZ)Z" } : Jvm.MethodName)) ∈ lw_all := lw_g (lw_at lw_m9 109 rfl) rfl
theorem q2293 : (Jvm.Cond.privateMethod ({ cls := "OpcodeForgeModel", name := "data", desc := "(IZ)Z" } : Jvm.MethodName)) ∈ lw_tbl := lw_at lw_m9 110 rfl
theorem q2294 : (Jvm.Cond.instanceMethod ({ cls := "OpcodeForgeModel", name := "data", desc := "(IZ)Z" } : Jvm.MethodName)) ∈ lw_all := lw_g (lw_at lw_m9 111 rfl) rfl
theorem q2295 : (Jvm.Cond.code ({ cls := "OpcodeForgeModel", name := "data", desc := "(IZ)Z" } : Jvm.MethodName) prog_12_method_71_code (7 : Nat) (Option.some Jvm.ClassFile.FieldType.boolean)) ∈ lw_all := lw_g (lw_at lw_m9 112 rfl) rfl
theorem q2296 : (Jvm.Cond.methodLink "OpcodeForgeModel" (612 : Nat) ({ cls := "OpcodeForgeModel", name := "lay", desc := "(I)V" } : Jvm.MethodName)) ∈ lw_all := lw_g (lw_at lw_m9 113 rfl) rfl
theorem q2297 : (Jvm.Cond.privateMethod ({ cls := "OpcodeForgeModel", name := "lay", desc := "(I)V" } : Jvm.MethodName)) ∈ lw_tbl := lw_at lw_m9 114 rfl
theorem q2298 : (Jvm.Cond.instanceMethod ({ cls := "OpcodeForgeModel", name := "lay", desc := "(I)V" } : Jvm.MethodName)) ∈ lw_all := lw_g (lw_at lw_m9 115 rfl) rfl
theorem q2299 : (Jvm.Cond.code ({ cls := "OpcodeForgeModel", name := "lay", desc := "(I)V" } : Jvm.MethodName) prog_12_method_59_code (2 : Nat) (Option.none : Option Jvm.ClassFile.FieldType)) ∈ lw_all := lw_g (lw_at lw_m9 116 rfl) rfl
theorem q2300 : (Jvm.Cond.methodLink "OpcodeForgeModel" (619 : Nat) ({ cls := "OpcodeForgeModel", name := "space", desc := "(I)Z" } : Jvm.MethodName)) ∈ lw_all := lw_g (lw_at lw_m9 117 rfl) rfl
theorem q2301 : (Jvm.Cond.privateMethod ({ cls := "OpcodeForgeModel", name := "space", desc := "(I)Z" } : Jvm.MethodName)) ∈ lw_tbl := lw_at lw_m9 118 rfl
theorem q2302 : (Jvm.Cond.instanceMethod ({ cls := "OpcodeForgeModel", name := "space", desc := "(I)Z" } : Jvm.MethodName)) ∈ lw_all := lw_g (lw_at lw_m9 119 rfl) rfl
theorem q2303 : (Jvm.Cond.code ({ cls := "OpcodeForgeModel", name := "space", desc := "(I)Z" } : Jvm.MethodName) prog_12_method_72_code (6 : Nat) (Option.some Jvm.ClassFile.FieldType.boolean)) ∈ lw_all := lw_g (lw_at lw_m9 120 rfl) rfl
theorem q2304 : (Jvm.Cond.methodLink "OpcodeForgeModel" (584 : Nat) ({ cls := "OpcodeForgeModel", name := "readOperands", desc := "()Z" } : Jvm.MethodName)) ∈ lw_all := lw_g (lw_at lw_m9 121 rfl) rfl
theorem q2305 : (Jvm.Cond.privateMethod ({ cls := "OpcodeForgeModel", name := "readOperands", desc := "()Z" } : Jvm.MethodName)) ∈ lw_tbl := lw_at lw_m9 122 rfl
theorem q2306 : (Jvm.Cond.instanceMethod ({ cls := "OpcodeForgeModel", name := "readOperands", desc := "()Z" } : Jvm.MethodName)) ∈ lw_all := lw_g (lw_at lw_m9 123 rfl) rfl
theorem q2307 : (Jvm.Cond.code ({ cls := "OpcodeForgeModel", name := "readOperands", desc := "()Z" } : Jvm.MethodName) prog_12_method_41_code (1 : Nat) (Option.some Jvm.ClassFile.FieldType.boolean)) ∈ lw_all := lw_g (lw_at lw_m9 124 rfl) rfl
theorem q2308 : (Jvm.Cond.methodLink "OpcodeForgeModel" (463 : Nat) ({ cls := "OpcodeForgeModel", name := "readOperand", desc := "()Z" } : Jvm.MethodName)) ∈ lw_all := lw_g (lw_at lw_m9 125 rfl) rfl
theorem q2309 : (Jvm.Cond.privateMethod ({ cls := "OpcodeForgeModel", name := "readOperand", desc := "()Z" } : Jvm.MethodName)) ∈ lw_tbl := lw_at lw_m9 126 rfl
theorem q2310 : (Jvm.Cond.instanceMethod ({ cls := "OpcodeForgeModel", name := "readOperand", desc := "()Z" } : Jvm.MethodName)) ∈ lw_all := lw_g (lw_at lw_m9 127 rfl) rfl
theorem q2311 : (Jvm.Cond.code ({ cls := "OpcodeForgeModel", name := "readOperand", desc := "()Z" } : Jvm.MethodName) prog_12_method_38_code (5 : Nat) (Option.some Jvm.ClassFile.FieldType.boolean)) ∈ lw_all := lw_g (lw_at lw_m9 128 rfl) rfl
theorem q2312 : (Jvm.Cond.methodLink "OpcodeForgeModel" (438 : Nat) ({ cls := "OpcodeForgeModel", name := "isPlace", desc := "()Z" } : Jvm.MethodName)) ∈ lw_all := lw_g (lw_at lw_m9 129 rfl) rfl
theorem q2313 : (Jvm.Cond.privateMethod ({ cls := "OpcodeForgeModel", name := "isPlace", desc := "()Z" } : Jvm.MethodName)) ∈ lw_tbl := lw_at lw_m9 130 rfl
theorem q2314 : (Jvm.Cond.instanceMethod ({ cls := "OpcodeForgeModel", name := "isPlace", desc := "()Z" } : Jvm.MethodName)) ∈ lw_all := lw_g (lw_at lw_m9 131 rfl) rfl
theorem q2315 : (Jvm.Cond.code ({ cls := "OpcodeForgeModel", name := "isPlace", desc := "()Z" } : Jvm.MethodName) prog_12_method_37_code (5 : Nat) (Option.some Jvm.ClassFile.FieldType.boolean)) ∈ lw_all := lw_g (lw_at lw_m9 132 rfl) rfl
theorem q2316 : (Jvm.Cond.methodLink "OpcodeForgeModel" (429 : Nat) ({ cls := "OpcodeForgeModel", name := "endsOperand", desc := "()Z" } : Jvm.MethodName)) ∈ lw_all := lw_g (lw_at lw_m9 133 rfl) rfl
theorem q2317 : (Jvm.Cond.privateMethod ({ cls := "OpcodeForgeModel", name := "endsOperand", desc := "()Z" } : Jvm.MethodName)) ∈ lw_tbl := lw_at lw_m9 134 rfl
theorem q2318 : (Jvm.Cond.instanceMethod ({ cls := "OpcodeForgeModel", name := "endsOperand", desc := "()Z" } : Jvm.MethodName)) ∈ lw_all := lw_g (lw_at lw_m9 135 rfl) rfl
theorem q2319 : (Jvm.Cond.code ({ cls := "OpcodeForgeModel", name := "endsOperand", desc := "()Z" } : Jvm.MethodName) prog_12_method_36_code (1 : Nat) (Option.some Jvm.ClassFile.FieldType.boolean)) ∈ lw_all := lw_g (lw_at lw_m9 136 rfl) rfl
theorem q2320 : (Jvm.Cond.methodLink "OpcodeForgeModel" (432 : Nat) ({ cls := "OpcodeForgeModel", name := "goTo", desc := "(I)V" } : Jvm.MethodName)) ∈ lw_all := lw_g (lw_at lw_m9 137 rfl) rfl
theorem q2321 : (Jvm.Cond.privateMethod ({ cls := "OpcodeForgeModel", name := "goTo", desc := "(I)V" } : Jvm.MethodName)) ∈ lw_tbl := lw_at lw_m9 138 rfl
theorem q2322 : (Jvm.Cond.instanceMethod ({ cls := "OpcodeForgeModel", name := "goTo", desc := "(I)V" } : Jvm.MethodName)) ∈ lw_all := lw_g (lw_at lw_m9 139 rfl) rfl
theorem q2323 : (Jvm.Cond.code ({ cls := "OpcodeForgeModel", name := "goTo", desc := "(I)V" } : Jvm.MethodName) prog_12_method_17_code (2 : Nat) (Option.none : Option Jvm.ClassFile.FieldType)) ∈ lw_all := lw_g (lw_at lw_m9 140 rfl) rfl
theorem q2324 : (Jvm.Cond.methodLink "OpcodeForgeModel" (441 : Nat) ({ cls := "OpcodeForgeModel", name := "readPlace", desc := "(I)Z" } : Jvm.MethodName)) ∈ lw_all := lw_g (lw_at lw_m9 141 rfl) rfl
theorem q2325 : (Jvm.Cond.privateMethod ({ cls := "OpcodeForgeModel", name := "readPlace", desc := "(I)Z" } : Jvm.MethodName)) ∈ lw_tbl := lw_at lw_m9 142 rfl
theorem q2326 : (Jvm.Cond.instanceMethod ({ cls := "OpcodeForgeModel", name := "readPlace", desc := "(I)Z" } : Jvm.MethodName)) ∈ lw_all := lw_g (lw_at lw_m9 143 rfl) rfl
theorem q2327 : (Jvm.Cond.code ({ cls := "OpcodeForgeModel", name := "readPlace", desc := "(I)Z" } : Jvm.MethodName) prog_12_method_40_code (7 : Nat) (Option.some Jvm.ClassFile.FieldType.boolean)) ∈ lw_all := lw_g (lw_at lw_m9 144 rfl) rfl
theorem q2328 : (Jvm.Cond.methodLink "OpcodeForgeModel" (457 : Nat) ({ cls := "OpcodeForgeModel", name := "index", desc := "(J)I" } : Jvm.MethodName)) ∈ lw_all := lw_g (lw_at lw_m9 145 rfl) rfl
theorem q2329 : (Jvm.Cond.privateMethod ({ cls := "OpcodeForgeModel", name := "index", desc := "(J)I" } : Jvm.MethodName)) ∈ lw_tbl := lw_at lw_m9 146 rfl
theorem q2330 : (Jvm.Cond.instanceMethod ({ cls := "OpcodeForgeModel", name := "index", desc := "(J)I" } : Jvm.MethodName)) ∈ lw_all := lw_g (lw_at lw_m9 147 rfl) rfl
theorem q2331 : (Jvm.Cond.code ({ cls := "OpcodeForgeModel", name := "index", desc := "(J)I" } : Jvm.MethodName) prog_12_method_34_code (3 : Nat) (Option.some Jvm.ClassFile.FieldType.int)) ∈ lw_all := lw_g (lw_at lw_m9 148 rfl) rfl
theorem q2332 : (Jvm.Cond.methodLink "OpcodeForgeModel" (444 : Nat) ({ cls := "OpcodeForgeModel", name := "setRegister", desc := "(IJ)V" } : Jvm.MethodName)) ∈ lw_all := lw_g (lw_at lw_m9 149 rfl) rfl
theorem q2333 : (Jvm.Cond.privateMethod ({ cls := "OpcodeForgeModel", name := "setRegister", desc := "(IJ)V" } : Jvm.MethodName)) ∈ lw_tbl := lw_at lw_m9 150 rfl
theorem q2334 : (Jvm.Cond.instanceMethod ({ cls := "OpcodeForgeModel", name := "setRegister", desc := "(IJ)V" } : Jvm.MethodName)) ∈ lw_all := lw_g (lw_at lw_m9 151 rfl) rfl
theorem q2335 : (Jvm.Cond.code ({ cls := "OpcodeForgeModel", name := "setRegister", desc := "(IJ)V" } : Jvm.MethodName) prog_12_method_39_code (4 : Nat) (Option.none : Option Jvm.ClassFile.FieldType)) ∈ lw_all := lw_g (lw_at lw_m9 152 rfl) rfl
theorem q2336 : (Jvm.Cond.methodLink "OpcodeForgeModel" (451 : Nat) ({ cls := "OpcodeForgeModel", name := "register8", desc := "(J)I" } : Jvm.MethodName)) ∈ lw_all := lw_g (lw_at lw_m9 153 rfl) rfl
theorem q2337 : (Jvm.Cond.privateMethod ({ cls := "OpcodeForgeModel", name := "register8", desc := "(J)I" } : Jvm.MethodName)) ∈ lw_tbl := lw_at lw_m9 154 rfl
theorem q2338 : (Jvm.Cond.instanceMethod ({ cls := "OpcodeForgeModel", name := "register8", desc := "(J)I" } : Jvm.MethodName)) ∈ lw_all := lw_g (lw_at lw_m9 155 rfl) rfl
theorem q2339 : (Jvm.Cond.code ({ cls := "OpcodeForgeModel", name := "register8", desc := "(J)I" } : Jvm.MethodName) prog_12_method_32_code (3 : Nat) (Option.some Jvm.ClassFile.FieldType.int)) ∈ lw_all := lw_g (lw_at lw_m9 156 rfl) rfl
theorem q2340 : (Jvm.Cond.methodLink "OpcodeForgeModel" (454 : Nat) ({ cls := "OpcodeForgeModel", name := "pair", desc := "(J)I" } : Jvm.MethodName)) ∈ lw_all := lw_g (lw_at lw_m9 157 rfl) rfl
theorem q2341 : (Jvm.Cond.privateMethod ({ cls := "OpcodeForgeModel", name := "pair", desc := "(J)I" } : Jvm.MethodName)) ∈ lw_tbl := lw_at lw_m9 158 rfl
theorem q2342 : (Jvm.Cond.instanceMethod ({ cls := "OpcodeForgeModel", name := "pair", desc := "(J)I" } : Jvm.MethodName)) ∈ lw_all := lw_g (lw_at lw_m9 159 rfl) rfl
theorem q2343 : (Jvm.Cond.code ({ cls := "OpcodeForgeModel", name := "pair", desc := "(J)I" } : Jvm.MethodName) prog_12_method_33_code (3 : Nat) (Option.some Jvm.ClassFile.FieldType.int)) ∈ lw_all := lw_g (lw_at lw_m9 160 rfl) rfl
theorem q2344 : (Jvm.Cond.methodLink "OpcodeForgeModel" (460 : Nat) ({ cls := "OpcodeForgeModel", name := "condition", desc := "(J)I" } : Jvm.MethodName)) ∈ lw_all := lw_g (lw_at lw_m9 161 rfl) rfl
theorem q2345 : (Jvm.Cond.privateMethod ({ cls := "OpcodeForgeModel", name := "condition", desc := "(J)I" } : Jvm.MethodName)) ∈ lw_tbl := lw_at lw_m9 162 rfl
theorem q2346 : (Jvm.Cond.instanceMethod ({ cls := "OpcodeForgeModel", name := "condition", desc := "(J)I" } : Jvm.MethodName)) ∈ lw_all := lw_g (lw_at lw_m9 163 rfl) rfl
theorem q2347 : (Jvm.Cond.code ({ cls := "OpcodeForgeModel", name := "condition", desc := "(J)I" } : Jvm.MethodName) prog_12_method_35_code (3 : Nat) (Option.some Jvm.ClassFile.FieldType.int)) ∈ lw_all := lw_g (lw_at lw_m9 164 rfl) rfl
theorem q2348 : (Jvm.Cond.methodLink "OpcodeForgeModel" (587 : Nat) ({ cls := "OpcodeForgeModel", name := "encode", desc := "(J)Z" } : Jvm.MethodName)) ∈ lw_all := lw_g (lw_at lw_m9 165 rfl) rfl
theorem q2349 : (Jvm.Cond.privateMethod ({ cls := "OpcodeForgeModel", name := "encode", desc := "(J)Z" } : Jvm.MethodName)) ∈ lw_tbl := lw_at lw_m9 166 rfl
theorem q2350 : (Jvm.Cond.instanceMethod ({ cls := "OpcodeForgeModel", name := "encode", desc := "(J)Z" } : Jvm.MethodName)) ∈ lw_all := lw_g (lw_at lw_m9 167 rfl) rfl
theorem q2351 : (Jvm.Cond.code ({ cls := "OpcodeForgeModel", name := "encode", desc := "(J)Z" } : Jvm.MethodName) prog_12_method_51_code (5 : Nat) (Option.some Jvm.ClassFile.FieldType.boolean)) ∈ lw_all := lw_g (lw_at lw_m9 168 rfl) rfl
theorem q2352 : (Jvm.Cond.methodLink "OpcodeForgeModel" (481 : Nat) ({ cls := "OpcodeForgeModel", name := "give", desc := "(III)Z" } : Jvm.MethodName)) ∈ lw_all := lw_g (lw_at lw_m9 169 rfl) rfl
theorem q2353 : (Jvm.Cond.privateMethod ({ cls := "OpcodeForgeModel", name := "give", desc := "(III)Z" } : Jvm.MethodName)) ∈ lw_tbl := lw_at lw_m9 170 rfl
theorem q2354 : (Jvm.Cond.instanceMethod ({ cls := "OpcodeForgeModel", name := "give", desc := "(III)Z" } : Jvm.MethodName)) ∈ lw_all := lw_g (lw_at lw_m9 171 rfl) rfl
theorem q2355 : (Jvm.Cond.code ({ cls := "OpcodeForgeModel", name := "give", desc := "(III)Z" } : Jvm.MethodName) prog_12_method_42_code (4 : Nat) (Option.some Jvm.ClassFile.FieldType.boolean)) ∈ lw_all := lw_g (lw_at lw_m9 172 rfl) rfl
theorem q2356 : (Jvm.Cond.methodLink "OpcodeForgeModel" (494 : Nat) ({ cls := "OpcodeForgeModel", name := "conditionOf", desc := "(I)I" } : Jvm.MethodName)) ∈ lw_all := lw_g (lw_at lw_m9 173 rfl) rfl
theorem q2357 : (Jvm.Cond.privateMethod ({ cls := "OpcodeForgeModel", name := "conditionOf", desc := "(I)I" } : Jvm.MethodName)) ∈ lw_tbl := lw_at lw_m9 174 rfl
theorem q2358 : (Jvm.Cond.instanceMethod ({ cls := "OpcodeForgeModel", name := "conditionOf", desc := "(I)I" } : Jvm.MethodName)) ∈ lw_all := lw_g (lw_at lw_m9 175 rfl) rfl
theorem q2359 : (Jvm.Cond.code ({ cls := "OpcodeForgeModel", name := "conditionOf", desc := "(I)I" } : Jvm.MethodName) prog_12_method_50_code (2 : Nat) (Option.some Jvm.ClassFile.FieldType.int)) ∈ lw_all := lw_g (lw_at lw_m9 176 rfl) rfl
theorem q2360 : (Jvm.Cond.methodLink "OpcodeForgeModel" (497 : Nat) ({ cls := "OpcodeForgeModel", name := "encodeOne", desc := "(J)Z" } : Jvm.MethodName)) ∈ lw_all := lw_g (lw_at lw_m9 177 rfl) rfl
theorem q2361 : (Jvm.Cond.privateMethod ({ cls := "OpcodeForgeModel", name := "encodeOne", desc := "(J)Z" } : Jvm.MethodName)) ∈ lw_tbl := lw_at lw_m9 178 rfl
theorem q2362 : (Jvm.Cond.instanceMethod ({ cls := "OpcodeForgeModel", name := "encodeOne", desc := "(J)Z" } : Jvm.MethodName)) ∈ lw_all := lw_g (lw_at lw_m9 179 rfl) rfl
theorem q2363 : (Jvm.Cond.code ({ cls := "OpcodeForgeModel", name := "encodeOne", desc := "(J)Z" } : Jvm.MethodName) prog_12_method_54_code (6 : Nat) (Option.some Jvm.ClassFile.FieldType.boolean)) ∈ lw_all := lw_g (lw_at lw_m9 180 rfl) rfl
theorem q2364 : (Jvm.Cond.methodLink "OpcodeForgeModel" (503 : Nat) ({ cls := "OpcodeForgeModel", name := "octetOf", desc := "(I)I" } : Jvm.MethodName)) ∈ lw_all := lw_g (lw_at lw_m9 181 rfl) rfl
theorem q2365 : (Jvm.Cond.privateMethod ({ cls := "OpcodeForgeModel", name := "octetOf", desc := "(I)I" } : Jvm.MethodName)) ∈ lw_tbl := lw_at lw_m9 182 rfl
theorem q2366 : (Jvm.Cond.instanceMethod ({ cls := "OpcodeForgeModel", name := "octetOf", desc := "(I)I" } : Jvm.MethodName)) ∈ lw_all := lw_g (lw_at lw_m9 183 rfl) rfl
theorem q2367 : (Jvm.Cond.code ({ cls := "OpcodeForgeModel", name := "octetOf", desc := "(I)I" } : Jvm.MethodName) prog_12_method_48_code (2 : Nat) (Option.some Jvm.ClassFile.FieldType.int)) ∈ lw_all := lw_g (lw_at lw_m9 184 rfl) rfl
theorem q2368 : (Jvm.Cond.methodLink "OpcodeForgeModel" (506 : Nat) ({ cls := "OpcodeForgeModel", name := "is", desc := "(II)Z" } : Jvm.MethodName)) ∈ lw_all := lw_g (lw_at lw_m9 185 rfl) rfl
theorem q2369 : (Jvm.Cond.privateMethod ({ cls := "OpcodeForgeModel", name := "is", desc := "(II)Z" } : Jvm.MethodName)) ∈ lw_tbl := lw_at lw_m9 186 rfl
theorem q2370 : (Jvm.Cond.instanceMethod ({ cls := "OpcodeForgeModel", name := "is", desc := "(II)Z" } : Jvm.MethodName)) ∈ lw_all := lw_g (lw_at lw_m9 187 rfl) rfl
theorem q2371 : (Jvm.Cond.code ({ cls := "OpcodeForgeModel", name := "is", desc := "(II)Z" } : Jvm.MethodName) prog_12_method_44_code (3 : Nat) (Option.some Jvm.ClassFile.FieldType.boolean)) ∈ lw_all := lw_g (lw_at lw_m9 188 rfl) rfl
theorem q2372 : (Jvm.Cond.methodLink "OpcodeForgeModel" (488 : Nat) ({ cls := "OpcodeForgeModel", name := "frontOf", desc := "(I)I" } : Jvm.MethodName)) ∈ lw_all := lw_g (lw_at lw_m9 189 rfl) rfl
theorem q2373 : (Jvm.Cond.privateMethod ({ cls := "OpcodeForgeModel", name := "frontOf", desc := "(I)I" } : Jvm.MethodName)) ∈ lw_tbl := lw_at lw_m9 190 rfl
theorem q2374 : (Jvm.Cond.instanceMethod ({ cls := "OpcodeForgeModel", name := "frontOf", desc := "(I)I" } : Jvm.MethodName)) ∈ lw_all := lw_g (lw_at lw_m9 191 rfl) rfl
theorem q2375 : (Jvm.Cond.code ({ cls := "OpcodeForgeModel", name := "frontOf", desc := "(I)I" } : Jvm.MethodName) prog_12_method_47_code (2 : Nat) (Option.some Jvm.ClassFile.FieldType.int)) ∈ lw_all := lw_g (lw_at lw_m9 192 rfl) rfl
theorem q2376 : (Jvm.Cond.methodLink "OpcodeForgeModel" (509 : Nat) ({ cls := "OpcodeForgeModel", name := "giveOctet", desc := "(III)Z" } : Jvm.MethodName)) ∈ lw_all := lw_g (lw_at lw_m9 193 rfl) rfl
theorem q2377 : (Jvm.Cond.privateMethod ({ cls := "OpcodeForgeModel", name := "giveOctet", desc := "(III)Z" } : Jvm.MethodName)) ∈ lw_tbl := lw_at lw_m9 194 rfl
theorem q2378 : (Jvm.Cond.instanceMethod ({ cls := "OpcodeForgeModel", name := "giveOctet", desc := "(III)Z" } : Jvm.MethodName)) ∈ lw_all := lw_g (lw_at lw_m9 195 rfl) rfl
theorem q2379 : (Jvm.Cond.code ({ cls := "OpcodeForgeModel", name := "giveOctet", desc := "(III)Z" } : Jvm.MethodName) prog_12_method_49_code (4 : Nat) (Option.some Jvm.ClassFile.FieldType.boolean)) ∈ lw_all := lw_g (lw_at lw_m9 196 rfl) rfl
theorem q2380 : (Jvm.Cond.methodLink "OpcodeForgeModel" (512 : Nat) ({ cls := "OpcodeForgeModel", name := "alone", desc := "(J)I" } : Jvm.MethodName)) ∈ lw_all := lw_g (lw_at lw_m9 197 rfl) rfl
theorem q2381 : (Jvm.Cond.privateMethod ({ cls := "OpcodeForgeModel", name := "alone", desc := "(J)I" } : Jvm.MethodName)) ∈ lw_tbl := lw_at lw_m9 198 rfl
theorem q2382 : (Jvm.Cond.instanceMethod ({ cls := "OpcodeForgeModel", name := "alone", desc := "(J)I" } : Jvm.MethodName)) ∈ lw_all := lw_g (lw_at lw_m9 199 rfl) rfl
theorem q2383 : (Jvm.Cond.code ({ cls := "OpcodeForgeModel", name := "alone", desc := "(J)I" } : Jvm.MethodName) prog_12_method_53_code (3 : Nat) (Option.some Jvm.ClassFile.FieldType.int)) ∈ lw_all := lw_g (lw_at lw_m9 200 rfl) rfl
theorem q2384 : (Jvm.Cond.methodLink "OpcodeForgeModel" (515 : Nat) ({ cls := "OpcodeForgeModel", name := "giveWith", desc := "(IIIII)Z" } : Jvm.MethodName)) ∈ lw_all := lw_g (lw_at lw_m9 201 rfl) rfl
theorem q2385 : (Jvm.Cond.privateMethod ({ cls := "OpcodeForgeModel", name := "giveWith", desc := "(IIIII)Z" } : Jvm.MethodName)) ∈ lw_tbl := lw_at lw_m9 202 rfl
theorem q2386 : (Jvm.Cond.instanceMethod ({ cls := "OpcodeForgeModel", name := "giveWith", desc := "(IIIII)Z" } : Jvm.MethodName)) ∈ lw_all := lw_g (lw_at lw_m9 203 rfl) rfl
theorem q2387 : (Jvm.Cond.code ({ cls := "OpcodeForgeModel", name := "giveWith", desc := "(IIIII)Z" } : Jvm.MethodName) prog_12_method_43_code (6 : Nat) (Option.some Jvm.ClassFile.FieldType.boolean)) ∈ lw_all := lw_g (lw_at lw_m9 204 rfl) rfl
theorem q2388 : (Jvm.Cond.methodLink "OpcodeForgeModel" (519 : Nat) ({ cls := "OpcodeForgeModel", name := "shiftOf", desc := "(J)I" } : Jvm.MethodName)) ∈ lw_all := lw_g (lw_at lw_m9 205 rfl) rfl
theorem q2389 : (Jvm.Cond.privateMethod ({ cls := "OpcodeForgeModel", name := "shiftOf", desc := "(J)I" } : Jvm.MethodName)) ∈ lw_tbl := lw_at lw_m9 206 rfl
theorem q2390 : (Jvm.Cond.instanceMethod ({ cls := "OpcodeForgeModel", name := "shiftOf", desc := "(J)I" } : Jvm.MethodName)) ∈ lw_all := lw_g (lw_at lw_m9 207 rfl) rfl
theorem q2391 : (Jvm.Cond.code ({ cls := "OpcodeForgeModel", name := "shiftOf", desc := "(J)I" } : Jvm.MethodName) prog_12_method_52_code (3 : Nat) (Option.some Jvm.ClassFile.FieldType.int)) ∈ lw_all := lw_g (lw_at lw_m9 208 rfl) rfl
theorem q2392 : (Jvm.Cond.methodLink "OpcodeForgeModel" (500 : Nat) ({ cls := "OpcodeForgeModel", name := "encodeTwo", desc := "(J)Z" } : Jvm.MethodName)) ∈ lw_all := lw_g (lw_at lw_m9 209 rfl) rfl
theorem q2393 : (Jvm.Cond.privateMethod ({ cls := "OpcodeForgeModel", name := "encodeTwo", desc := "(J)Z" } : Jvm.MethodName)) ∈ lw_tbl := lw_at lw_m9 210 rfl
theorem q2394 : (Jvm.Cond.instanceMethod ({ cls := "OpcodeForgeModel", name := "encodeTwo", desc := "(J)Z" } : Jvm.MethodName)) ∈ lw_all := lw_g (lw_at lw_m9 211 rfl) rfl
theorem q2395 : (Jvm.Cond.code ({ cls := "OpcodeForgeModel", name := "encodeTwo", desc := "(J)Z" } : Jvm.MethodName) prog_12_method_55_code (4 : Nat) (Option.some Jvm.ClassFile.FieldType.boolean)) ∈ lw_all := lw_g (lw_at lw_m9 212 rfl) rfl
theorem q2396 : (Jvm.Cond.methodLink "OpcodeForgeModel" (525 : Nat) ({ cls := "OpcodeForgeModel", name := "encodeLoad", desc := "()Z" } : Jvm.MethodName)) ∈ lw_all := lw_g (lw_at lw_m9 213 rfl) rfl
theorem q2397 : (Jvm.Cond.privateMethod ({ cls := "OpcodeForgeModel", name := "encodeLoad", desc := "()Z" } : Jvm.MethodName)) ∈ lw_tbl := lw_at lw_m9 214 rfl
theorem q2398 : (Jvm.Cond.instanceMethod ({ cls := "OpcodeForgeModel", name := "encodeLoad", desc := "()Z" } : Jvm.MethodName)) ∈ lw_all := lw_g (lw_at lw_m9 215 rfl) rfl
theorem q2399 : (Jvm.Cond.code ({ cls := "OpcodeForgeModel", name := "encodeLoad", desc := "()Z" } : Jvm.MethodName) prog_12_method_57_code (3 : Nat) (Option.some Jvm.ClassFile.FieldType.boolean)) ∈ lw_all := lw_g (lw_at lw_m9 216 rfl) rfl
theorem q2400 : (Jvm.Cond.methodLink "OpcodeForgeModel" (528 : Nat) ({ cls := "OpcodeForgeModel", name := "isHL", desc := "(I)Z" } : Jvm.MethodName)) ∈ lw_all := lw_g (lw_at lw_m9 217 rfl) rfl
theorem q2401 : (Jvm.Cond.privateMethod ({ cls := "OpcodeForgeModel", name := "isHL", desc := "(I)Z" } : Jvm.MethodName)) ∈ lw_tbl := lw_at lw_m9 218 rfl
theorem q2402 : (Jvm.Cond.instanceMethod ({ cls := "OpcodeForgeModel", name := "isHL", desc := "(I)Z" } : Jvm.MethodName)) ∈ lw_all := lw_g (lw_at lw_m9 219 rfl) rfl
theorem q2403 : (Jvm.Cond.code ({ cls := "OpcodeForgeModel", name := "isHL", desc := "(I)Z" } : Jvm.MethodName) prog_12_method_46_code (2 : Nat) (Option.some Jvm.ClassFile.FieldType.boolean)) ∈ lw_all := lw_g (lw_at lw_m9 220 rfl) rfl
theorem q2404 : (Jvm.Cond.methodLink "OpcodeForgeModel" (534 : Nat) ({ cls := "OpcodeForgeModel", name := "isA", desc := "(I)Z" } : Jvm.MethodName)) ∈ lw_all := lw_g (lw_at lw_m9 221 rfl) rfl
theorem q2405 : (Jvm.Cond.privateMethod ({ cls := "OpcodeForgeModel", name := "isA", desc := "(I)Z" } : Jvm.MethodName)) ∈ lw_tbl := lw_at lw_m9 222 rfl
theorem q2406 : (Jvm.Cond.instanceMethod ({ cls := "OpcodeForgeModel", name := "isA", desc := "(I)Z" } : Jvm.MethodName)) ∈ lw_all := lw_g (lw_at lw_m9 223 rfl) rfl
theorem q2407 : (Jvm.Cond.code ({ cls := "OpcodeForgeModel", name := "isA", desc := "(I)Z" } : Jvm.MethodName) prog_12_method_45_code (2 : Nat) (Option.some Jvm.ClassFile.FieldType.boolean)) ∈ lw_all := lw_g (lw_at lw_m9 224 rfl) rfl
theorem q2408 : (Jvm.Cond.methodLink "OpcodeForgeModel" (531 : Nat) ({ cls := "OpcodeForgeModel", name := "encodeSum", desc := "(J)Z" } : Jvm.MethodName)) ∈ lw_all := lw_g (lw_at lw_m9 225 rfl) rfl
theorem q2409 : (Jvm.Cond.privateMethod ({ cls := "OpcodeForgeModel", name := "encodeSum", desc := "(J)Z" } : Jvm.MethodName)) ∈ lw_tbl := lw_at lw_m9 226 rfl
theorem q2410 : (Jvm.Cond.instanceMethod ({ cls := "OpcodeForgeModel", name := "encodeSum", desc := "(J)Z" } : Jvm.MethodName)) ∈ lw_all := lw_g (lw_at lw_m9 227 rfl) rfl
theorem q2411 : (Jvm.Cond.code ({ cls := "OpcodeForgeModel", name := "encodeSum", desc := "(J)Z" } : Jvm.MethodName) prog_12_method_56_code (4 : Nat) (Option.some Jvm.ClassFile.FieldType.boolean)) ∈ lw_all := lw_g (lw_at lw_m9 228 rfl) rfl
theorem q2412 : (Jvm.Cond.methodLink "OpcodeForgeModel" (590 : Nat) ({ cls := "OpcodeForgeModel", name := "lengthOf", desc := "()I" } : Jvm.MethodName)) ∈ lw_all := lw_g (lw_at lw_m9 229 rfl) rfl
theorem q2413 : (Jvm.Cond.privateMethod ({ cls := "OpcodeForgeModel", name := "lengthOf", desc := "()I" } : Jvm.MethodName)) ∈ lw_tbl := lw_at lw_m9 230 rfl
theorem q2414 : (Jvm.Cond.instanceMethod ({ cls := "OpcodeForgeModel", name := "lengthOf", desc := "()I" } : Jvm.MethodName)) ∈ lw_all := lw_g (lw_at lw_m9 231 rfl) rfl
theorem q2415 : (Jvm.Cond.code ({ cls := "OpcodeForgeModel", name := "lengthOf", desc := "()I" } : Jvm.MethodName) prog_12_method_58_code (1 : Nat) (Option.some Jvm.ClassFile.FieldType.int)) ∈ lw_all := lw_g (lw_at lw_m9 232 rfl) rfl
theorem q2416 : (Jvm.Cond.methodLink "OpcodeForgeModel" (594 : Nat) ({ cls := "OpcodeForgeModel", name := "layInstruction", desc := "(I)Z" } : Jvm.MethodName)) ∈ lw_all := lw_g (lw_at lw_m9 233 rfl) rfl
theorem q2417 : (Jvm.Cond.privateMethod ({ cls := "OpcodeForgeModel", name := "layInstruction", desc := "(I)Z" } : Jvm.MethodName)) ∈ lw_tbl := lw_at lw_m9 234 rfl
theorem q2418 : (Jvm.Cond.instanceMethod ({ cls := "OpcodeForgeModel", name := "layInstruction", desc := "(I)Z" } : Jvm.MethodName)) ∈ lw_all := lw_g (lw_at lw_m9 235 rfl) rfl
theorem q2419 : (Jvm.Cond.code ({ cls := "OpcodeForgeModel", name := "layInstruction", desc := "(I)Z" } : Jvm.MethodName) prog_12_method_68_code (4 : Nat) (Option.some Jvm.ClassFile.FieldType.boolean)) ∈ lw_all := lw_g (lw_at lw_m9 236 rfl) rfl
theorem q2420 : (Jvm.Cond.methodLink "OpcodeForgeModel" (609 : Nat) ({ cls := "OpcodeForgeModel", name := "work", desc := "(II)Z" } : Jvm.MethodName)) ∈ lw_all := lw_g (lw_at lw_m9 237 rfl) rfl
theorem q2421 : (Jvm.Cond.privateMethod ({ cls := "OpcodeForgeModel", name := "work", desc := "(II)Z" } : Jvm.MethodName)) ∈ lw_tbl := lw_at lw_m9 238 rfl
theorem q2422 : (Jvm.Cond.instanceMethod ({ cls := "OpcodeForgeModel", name := "work", desc := "(II)Z" } : Jvm.MethodName)) ∈ lw_all := lw_g (lw_at lw_m9 239 rfl) rfl
theorem q2423 : (Jvm.Cond.code ({ cls := "OpcodeForgeModel", name := "work", desc := "(II)Z" } : Jvm.MethodName) prog_12_method_67_code (6 : Nat) (Option.some Jvm.ClassFile.FieldType.boolean)) ∈ lw_all := lw_g (lw_at lw_m10 0 rfl) rfl
theorem q2424 : (Jvm.Cond.methodLink "OpcodeForgeModel" (600 : Nat) ({ cls := "OpcodeForgeModel", name := "expValue", desc := "(I)I" } : Jvm.MethodName)) ∈ lw_all := lw_g (lw_at lw_m10 1 rfl) rfl
theorem q2425 : (Jvm.Cond.privateMethod ({ cls := "OpcodeForgeModel", name := "expValue", desc := "(I)I" } : Jvm.MethodName)) ∈ lw_tbl := lw_at lw_m10 2 rfl
theorem q2426 : (Jvm.Cond.instanceMethod ({ cls := "OpcodeForgeModel", name := "expValue", desc := "(I)I" } : Jvm.MethodName)) ∈ lw_all := lw_g (lw_at lw_m10 3 rfl) rfl
theorem q2427 : (Jvm.Cond.code ({ cls := "OpcodeForgeModel", name := "expValue", desc := "(I)I" } : Jvm.MethodName) prog_12_method_66_code (2 : Nat) (Option.some Jvm.ClassFile.FieldType.int)) ∈ lw_all := lw_g (lw_at lw_m10 4 rfl) rfl
theorem q2429 : (Jvm.Cond.instanceMethod ({ cls := "OpcodeForgeModel", name := "told", desc := "(I)I" } : Jvm.MethodName)) ∈ lw_all := lw_g (lw_at lw_m10 6 rfl) rfl
theorem q2430 : (Jvm.Cond.selects "OpcodeForgeModel" ({ cls := "OpcodeForgeModel", name := "told", desc := "(I)I" } : Jvm.MethodName) ({ cls := "OpcodeForgeModel", name := "told", desc := "(I)I" } : Jvm.MethodName)) ∈ lw_all := lw_g (lw_at lw_m10 7 rfl) rfl
theorem q2431 : (Jvm.Cond.code ({ cls := "OpcodeForgeModel", name := "told", desc := "(I)I" } : Jvm.MethodName) prog_12_method_76_code (2 : Nat) (Option.some Jvm.ClassFile.FieldType.int)) ∈ lw_all := lw_g (lw_at lw_m10 8 rfl) rfl
theorem q2433 : (Jvm.Cond.instanceMethod ({ cls := "OpcodeForgeModel", name := "label", desc := "(I)I" } : Jvm.MethodName)) ∈ lw_all := lw_g (lw_at lw_m10 10 rfl) rfl
theorem q2434 : (Jvm.Cond.selects "OpcodeForgeModel" ({ cls := "OpcodeForgeModel", name := "label", desc := "(I)I" } : Jvm.MethodName) ({ cls := "OpcodeForgeModel", name := "label", desc := "(I)I" } : Jvm.MethodName)) ∈ lw_all := lw_g (lw_at lw_m10 11 rfl) rfl
theorem q2435 : (Jvm.Cond.code ({ cls := "OpcodeForgeModel", name := "label", desc := "(I)I" } : Jvm.MethodName) prog_12_method_77_code (2 : Nat) (Option.some Jvm.ClassFile.FieldType.int)) ∈ lw_all := lw_g (lw_at lw_m10 12 rfl) rfl
theorem q2437 : (Jvm.Cond.instanceMethod ({ cls := "OpcodeForgeModel", name := "labelSign", desc := "(II)I" } : Jvm.MethodName)) ∈ lw_all := lw_g (lw_at lw_m10 14 rfl) rfl
theorem q2438 : (Jvm.Cond.selects "OpcodeForgeModel" ({ cls := "OpcodeForgeModel", name := "labelSign", desc := "(II)I" } : Jvm.MethodName) ({ cls := "OpcodeForgeModel", name := "labelSign", desc := "(II)I" } : Jvm.MethodName)) ∈ lw_all := lw_g (lw_at lw_m10 15 rfl) rfl
theorem q2439 : (Jvm.Cond.code ({ cls := "OpcodeForgeModel", name := "labelSign", desc := "(II)I" } : Jvm.MethodName) prog_12_method_78_code (3 : Nat) (Option.some Jvm.ClassFile.FieldType.int)) ∈ lw_all := lw_g (lw_at lw_m10 16 rfl) rfl
theorem q2441 : (Jvm.Cond.instanceMethod ({ cls := "OpcodeForgeModel", name := "write", desc := "(I)I" } : Jvm.MethodName)) ∈ lw_all := lw_g (lw_at lw_m10 18 rfl) rfl
theorem q2442 : (Jvm.Cond.selects "OpcodeForgeModel" ({ cls := "OpcodeForgeModel", name := "write", desc := "(I)I" } : Jvm.MethodName) ({ cls := "OpcodeForgeModel", name := "write", desc := "(I)I" } : Jvm.MethodName)) ∈ lw_all := lw_g (lw_at lw_m10 19 rfl) rfl
theorem q2443 : (Jvm.Cond.code ({ cls := "OpcodeForgeModel", name := "write", desc := "(I)I" } : Jvm.MethodName) prog_12_method_107_code (4 : Nat) (Option.some Jvm.ClassFile.FieldType.int)) ∈ lw_all := lw_g (lw_at lw_m10 20 rfl) rfl
theorem q2444 : (Jvm.Cond.methodLink "OpcodeForgeModel" (859 : Nat) ({ cls := "OpcodeForgeModel", name := "writeAt", desc := "(I)I" } : Jvm.MethodName)) ∈ lw_all := lw_g (lw_at lw_m10 21 rfl) rfl
theorem q2445 : (Jvm.Cond.privateMethod ({ cls := "OpcodeForgeModel", name := "writeAt", desc := "(I)I" } : Jvm.MethodName)) ∈ lw_tbl := lw_at lw_m10 22 rfl
theorem q2446 : (Jvm.Cond.instanceMethod ({ cls := "OpcodeForgeModel", name := "writeAt", desc := "(I)I" } : Jvm.MethodName)) ∈ lw_all := lw_g (lw_at lw_m10 23 rfl) rfl
theorem q2447 : (Jvm.Cond.code ({ cls := "OpcodeForgeModel", name := "writeAt", desc := "(I)I" } : Jvm.MethodName) prog_12_method_106_code (2 : Nat) (Option.some Jvm.ClassFile.FieldType.int)) ∈ lw_all := lw_g (lw_at lw_m10 24 rfl) rfl
theorem q2448 : (Jvm.Cond.methodLink "OpcodeForgeModel" (842 : Nat) ({ cls := "OpcodeForgeModel", name := "decode", desc := "(I)Z" } : Jvm.MethodName)) ∈ lw_all := lw_g (lw_at lw_m10 25 rfl) rfl
theorem q2449 : (Jvm.Cond.privateMethod ({ cls := "OpcodeForgeModel", name := "decode", desc := "(I)Z" } : Jvm.MethodName)) ∈ lw_tbl := lw_at lw_m10 26 rfl
theorem q2450 : (Jvm.Cond.instanceMethod ({ cls := "OpcodeForgeModel", name := "decode", desc := "(I)Z" } : Jvm.MethodName)) ∈ lw_all := lw_g (lw_at lw_m10 27 rfl) rfl
theorem q2451 : (Jvm.Cond.code ({ cls := "OpcodeForgeModel", name := "decode", desc := "(I)Z" } : Jvm.MethodName) prog_12_method_86_code (3 : Nat) (Option.some Jvm.ClassFile.FieldType.boolean)) ∈ lw_all := lw_g (lw_at lw_m10 28 rfl) rfl
theorem q2452 : (Jvm.Cond.methodLink "OpcodeForgeModel" (651 : Nat) ({ cls := "OpcodeForgeModel", name := "peek", desc := "(I)I" } : Jvm.MethodName)) ∈ lw_all := lw_g (lw_at lw_m10 29 rfl) rfl
theorem q2453 : (Jvm.Cond.privateMethod ({ cls := "OpcodeForgeModel", name := "peek", desc := "(I)I" } : Jvm.MethodName)) ∈ lw_tbl := lw_at lw_m10 30 rfl
theorem q2454 : (Jvm.Cond.instanceMethod ({ cls := "OpcodeForgeModel", name := "peek", desc := "(I)I" } : Jvm.MethodName)) ∈ lw_all := lw_g (lw_at lw_m10 31 rfl) rfl
theorem q2455 : (Jvm.Cond.code ({ cls := "OpcodeForgeModel", name := "peek", desc := "(I)I" } : Jvm.MethodName) prog_12_method_79_code (2 : Nat) (Option.some Jvm.ClassFile.FieldType.int)) ∈ lw_all := lw_g (lw_at lw_m10 32 rfl) rfl
theorem q2456 : (Jvm.Cond.methodLink "OpcodeForgeModel" (668 : Nat) ({ cls := "OpcodeForgeModel", name := "plainLength", desc := "(I)I" } : Jvm.MethodName)) ∈ lw_all := lw_g (lw_at lw_m10 33 rfl) rfl
theorem q2457 : (Jvm.Cond.privateMethod ({ cls := "OpcodeForgeModel", name := "plainLength", desc := "(I)I" } : Jvm.MethodName)) ∈ lw_tbl := lw_at lw_m10 34 rfl
theorem q2458 : (Jvm.Cond.instanceMethod ({ cls := "OpcodeForgeModel", name := "plainLength", desc := "(I)I" } : Jvm.MethodName)) ∈ lw_all := lw_g (lw_at lw_m10 35 rfl) rfl
theorem q2459 : (Jvm.Cond.code ({ cls := "OpcodeForgeModel", name := "plainLength", desc := "(I)I" } : Jvm.MethodName) prog_12_method_82_code (5 : Nat) (Option.some Jvm.ClassFile.FieldType.int)) ∈ lw_all := lw_g (lw_at lw_m10 36 rfl) rfl
theorem q2460 : (Jvm.Cond.methodLink "OpcodeForgeModel" (674 : Nat) ({ cls := "OpcodeForgeModel", name := "isBehind237", desc := "(I)Z" } : Jvm.MethodName)) ∈ lw_all := lw_g (lw_at lw_m10 37 rfl) rfl
theorem q2461 : (Jvm.Cond.privateMethod ({ cls := "OpcodeForgeModel", name := "isBehind237", desc := "(I)Z" } : Jvm.MethodName)) ∈ lw_tbl := lw_at lw_m10 38 rfl
theorem q2462 : (Jvm.Cond.instanceMethod ({ cls := "OpcodeForgeModel", name := "isBehind237", desc := "(I)Z" } : Jvm.MethodName)) ∈ lw_all := lw_g (lw_at lw_m10 39 rfl) rfl
theorem q2463 : (Jvm.Cond.code ({ cls := "OpcodeForgeModel", name := "isBehind237", desc := "(I)Z" } : Jvm.MethodName) prog_12_method_85_code (4 : Nat) (Option.some Jvm.ClassFile.FieldType.boolean)) ∈ lw_all := lw_g (lw_at lw_m10 40 rfl) rfl
theorem q2464 : (Jvm.Cond.methodLink "OpcodeForgeModel" (677 : Nat) ({ cls := "OpcodeForgeModel", name := "signed", desc := "(I)I" } : Jvm.MethodName)) ∈ lw_all := lw_g (lw_at lw_m10 41 rfl) rfl
theorem q2465 : (Jvm.Cond.privateMethod ({ cls := "OpcodeForgeModel", name := "signed", desc := "(I)I" } : Jvm.MethodName)) ∈ lw_tbl := lw_at lw_m10 42 rfl
theorem q2466 : (Jvm.Cond.instanceMethod ({ cls := "OpcodeForgeModel", name := "signed", desc := "(I)I" } : Jvm.MethodName)) ∈ lw_all := lw_g (lw_at lw_m10 43 rfl) rfl
theorem q2467 : (Jvm.Cond.code ({ cls := "OpcodeForgeModel", name := "signed", desc := "(I)I" } : Jvm.MethodName) prog_12_method_81_code (2 : Nat) (Option.some Jvm.ClassFile.FieldType.int)) ∈ lw_all := lw_g (lw_at lw_m10 44 rfl) rfl
theorem q2468 : (Jvm.Cond.methodLink "OpcodeForgeModel" (680 : Nat) ({ cls := "OpcodeForgeModel", name := "hasPlace", desc := "(I)Z" } : Jvm.MethodName)) ∈ lw_all := lw_g (lw_at lw_m10 45 rfl) rfl
theorem q2469 : (Jvm.Cond.privateMethod ({ cls := "OpcodeForgeModel", name := "hasPlace", desc := "(I)Z" } : Jvm.MethodName)) ∈ lw_tbl := lw_at lw_m10 46 rfl
theorem q2470 : (Jvm.Cond.instanceMethod ({ cls := "OpcodeForgeModel", name := "hasPlace", desc := "(I)Z" } : Jvm.MethodName)) ∈ lw_all := lw_g (lw_at lw_m10 47 rfl) rfl
theorem q2471 : (Jvm.Cond.code ({ cls := "OpcodeForgeModel", name := "hasPlace", desc := "(I)Z" } : Jvm.MethodName) prog_12_method_83_code (5 : Nat) (Option.some Jvm.ClassFile.FieldType.boolean)) ∈ lw_all := lw_g (lw_at lw_m10 48 rfl) rfl
theorem q2472 : (Jvm.Cond.methodLink "OpcodeForgeModel" (683 : Nat) ({ cls := "OpcodeForgeModel", name := "hasHL", desc := "(I)Z" } : Jvm.MethodName)) ∈ lw_all := lw_g (lw_at lw_m10 49 rfl) rfl
theorem q2473 : (Jvm.Cond.privateMethod ({ cls := "OpcodeForgeModel", name := "hasHL", desc := "(I)Z" } : Jvm.MethodName)) ∈ lw_tbl := lw_at lw_m10 50 rfl
theorem q2474 : (Jvm.Cond.instanceMethod ({ cls := "OpcodeForgeModel", name := "hasHL", desc := "(I)Z" } : Jvm.MethodName)) ∈ lw_all := lw_g (lw_at lw_m10 51 rfl) rfl
theorem q2475 : (Jvm.Cond.code ({ cls := "OpcodeForgeModel", name := "hasHL", desc := "(I)Z" } : Jvm.MethodName) prog_12_method_84_code (4 : Nat) (Option.some Jvm.ClassFile.FieldType.boolean)) ∈ lw_all := lw_g (lw_at lw_m10 52 rfl) rfl
theorem q2476 : (Jvm.Cond.constantLong "OpcodeForgeModel" (845 : Nat) (4473376 : Int64)) ∈ lw_all := lw_g (lw_at lw_m10 53 rfl) rfl
theorem q2477 : (Jvm.Cond.methodLink "OpcodeForgeModel" (694 : Nat) ({ cls := "OpcodeForgeModel", name := "say", desc := "(J)V" } : Jvm.MethodName)) ∈ lw_all := lw_g (lw_at lw_m10 54 rfl) rfl
theorem q2478 : (Jvm.Cond.privateMethod ({ cls := "OpcodeForgeModel", name := "say", desc := "(J)V" } : Jvm.MethodName)) ∈ lw_tbl := lw_at lw_m10 55 rfl
theorem q2479 : (Jvm.Cond.instanceMethod ({ cls := "OpcodeForgeModel", name := "say", desc := "(J)V" } : Jvm.MethodName)) ∈ lw_all := lw_g (lw_at lw_m10 56 rfl) rfl
theorem q2480 : (Jvm.Cond.code ({ cls := "OpcodeForgeModel", name := "say", desc := "(J)V" } : Jvm.MethodName) prog_12_method_88_code (5 : Nat) (Option.none : Option Jvm.ClassFile.FieldType)) ∈ lw_all := lw_g (lw_at lw_m10 57 rfl) rfl
theorem q2481 : (Jvm.Cond.methodLink "OpcodeForgeModel" (689 : Nat) ({ cls := "OpcodeForgeModel", name := "one", desc := "(I)V" } : Jvm.MethodName)) ∈ lw_all := lw_g (lw_at lw_m10 58 rfl) rfl
theorem q2482 : (Jvm.Cond.privateMethod ({ cls := "OpcodeForgeModel", name := "one", desc := "(I)V" } : Jvm.MethodName)) ∈ lw_tbl := lw_at lw_m10 59 rfl
theorem q2483 : (Jvm.Cond.instanceMethod ({ cls := "OpcodeForgeModel", name := "one", desc := "(I)V" } : Jvm.MethodName)) ∈ lw_all := lw_g (lw_at lw_m10 60 rfl) rfl
theorem q2484 : (Jvm.Cond.code ({ cls := "OpcodeForgeModel", name := "one", desc := "(I)V" } : Jvm.MethodName) prog_12_method_87_code (2 : Nat) (Option.none : Option Jvm.ClassFile.FieldType)) ∈ lw_all := lw_g (lw_at lw_m10 61 rfl) rfl
theorem q2485 : (Jvm.Cond.methodLink "OpcodeForgeModel" (701 : Nat) ({ cls := "OpcodeForgeModel", name := "number", desc := "(I)V" } : Jvm.MethodName)) ∈ lw_all := lw_g (lw_at lw_m10 62 rfl) rfl
theorem q2486 : (Jvm.Cond.privateMethod ({ cls := "OpcodeForgeModel", name := "number", desc := "(I)V" } : Jvm.MethodName)) ∈ lw_tbl := lw_at lw_m10 63 rfl
theorem q2487 : (Jvm.Cond.instanceMethod ({ cls := "OpcodeForgeModel", name := "number", desc := "(I)V" } : Jvm.MethodName)) ∈ lw_all := lw_g (lw_at lw_m10 64 rfl) rfl
theorem q2488 : (Jvm.Cond.code ({ cls := "OpcodeForgeModel", name := "number", desc := "(I)V" } : Jvm.MethodName) prog_12_method_89_code (3 : Nat) (Option.none : Option Jvm.ClassFile.FieldType)) ∈ lw_all := lw_g (lw_at lw_m10 65 rfl) rfl
theorem q2489 : (Jvm.Cond.methodLink "OpcodeForgeModel" (847 : Nat) ({ cls := "OpcodeForgeModel", name := "write203", desc := "()V" } : Jvm.MethodName)) ∈ lw_all := lw_g (lw_at lw_m10 66 rfl) rfl
theorem q2490 : (Jvm.Cond.privateMethod ({ cls := "OpcodeForgeModel", name := "write203", desc := "()V" } : Jvm.MethodName)) ∈ lw_tbl := lw_at lw_m10 67 rfl
theorem q2491 : (Jvm.Cond.instanceMethod ({ cls := "OpcodeForgeModel", name := "write203", desc := "()V" } : Jvm.MethodName)) ∈ lw_all := lw_g (lw_at lw_m10 68 rfl) rfl
theorem q2492 : (Jvm.Cond.code ({ cls := "OpcodeForgeModel", name := "write203", desc := "()V" } : Jvm.MethodName) prog_12_method_105_code (3 : Nat) (Option.none : Option Jvm.ClassFile.FieldType)) ∈ lw_all := lw_g (lw_at lw_m10 69 rfl) rfl
theorem q2493 : (Jvm.Cond.constantLong "OpcodeForgeModel" (822 : Nat) (1380729632 : Int64)) ∈ lw_all := lw_g (lw_at lw_m10 70 rfl) rfl
theorem q2494 : (Jvm.Cond.constantLong "OpcodeForgeModel" (824 : Nat) (1381122848 : Int64)) ∈ lw_all := lw_g (lw_at lw_m10 71 rfl) rfl
theorem q2495 : (Jvm.Cond.constantLong "OpcodeForgeModel" (826 : Nat) (5393440 : Int64)) ∈ lw_all := lw_g (lw_at lw_m10 72 rfl) rfl
theorem q2496 : (Jvm.Cond.constantLong "OpcodeForgeModel" (828 : Nat) (5394976 : Int64)) ∈ lw_all := lw_g (lw_at lw_m10 73 rfl) rfl
theorem q2497 : (Jvm.Cond.constantLong "OpcodeForgeModel" (830 : Nat) (1397506336 : Int64)) ∈ lw_all := lw_g (lw_at lw_m10 74 rfl) rfl
theorem q2498 : (Jvm.Cond.constantLong "OpcodeForgeModel" (832 : Nat) (1397899552 : Int64)) ∈ lw_all := lw_g (lw_at lw_m10 75 rfl) rfl
theorem q2499 : (Jvm.Cond.constantLong "OpcodeForgeModel" (834 : Nat) (1397902368 : Int64)) ∈ lw_all := lw_g (lw_at lw_m10 76 rfl) rfl
theorem q2500 : (Jvm.Cond.constantLong "OpcodeForgeModel" (836 : Nat) (1112101920 : Int64)) ∈ lw_all := lw_g (lw_at lw_m10 77 rfl) rfl
theorem q2501 : (Jvm.Cond.constantLong "OpcodeForgeModel" (838 : Nat) (1380274976 : Int64)) ∈ lw_all := lw_g (lw_at lw_m10 78 rfl) rfl
theorem q2502 : (Jvm.Cond.constantLong "OpcodeForgeModel" (840 : Nat) (1397052448 : Int64)) ∈ lw_all := lw_g (lw_at lw_m10 79 rfl) rfl
theorem q2503 : (Jvm.Cond.methodLink "OpcodeForgeModel" (755 : Nat) ({ cls := "OpcodeForgeModel", name := "octetName", desc := "(I)V" } : Jvm.MethodName)) ∈ lw_all := lw_g (lw_at lw_m10 80 rfl) rfl
theorem q2504 : (Jvm.Cond.privateMethod ({ cls := "OpcodeForgeModel", name := "octetName", desc := "(I)V" } : Jvm.MethodName)) ∈ lw_tbl := lw_at lw_m10 81 rfl
theorem q2505 : (Jvm.Cond.instanceMethod ({ cls := "OpcodeForgeModel", name := "octetName", desc := "(I)V" } : Jvm.MethodName)) ∈ lw_all := lw_g (lw_at lw_m10 82 rfl) rfl
theorem q2506 : (Jvm.Cond.code ({ cls := "OpcodeForgeModel", name := "octetName", desc := "(I)V" } : Jvm.MethodName) prog_12_method_92_code (2 : Nat) (Option.none : Option Jvm.ClassFile.FieldType)) ∈ lw_all := lw_g (lw_at lw_m10 83 rfl) rfl
theorem q2507 : (Jvm.Cond.methodLink "OpcodeForgeModel" (704 : Nat) ({ cls := "OpcodeForgeModel", name := "place", desc := "()V" } : Jvm.MethodName)) ∈ lw_all := lw_g (lw_at lw_m10 84 rfl) rfl
theorem q2508 : (Jvm.Cond.privateMethod ({ cls := "OpcodeForgeModel", name := "place", desc := "()V" } : Jvm.MethodName)) ∈ lw_tbl := lw_at lw_m10 85 rfl
theorem q2509 : (Jvm.Cond.instanceMethod ({ cls := "OpcodeForgeModel", name := "place", desc := "()V" } : Jvm.MethodName)) ∈ lw_all := lw_g (lw_at lw_m10 86 rfl) rfl
theorem q2510 : (Jvm.Cond.code ({ cls := "OpcodeForgeModel", name := "place", desc := "()V" } : Jvm.MethodName) prog_12_method_90_code (1 : Nat) (Option.none : Option Jvm.ClassFile.FieldType)) ∈ lw_all := lw_g (lw_at lw_m10 87 rfl) rfl
theorem q2511 : (Jvm.Cond.constantLong "OpcodeForgeModel" (692 : Nat) (675826729 : Int64)) ∈ lw_all := lw_g (lw_at lw_m10 88 rfl) rfl
theorem q2512 : (Jvm.Cond.methodLink "OpcodeForgeModel" (698 : Nat) ({ cls := "OpcodeForgeModel", name := "indexName", desc := "()V" } : Jvm.MethodName)) ∈ lw_all := lw_g (lw_at lw_m10 89 rfl) rfl
theorem q2513 : (Jvm.Cond.privateMethod ({ cls := "OpcodeForgeModel", name := "indexName", desc := "()V" } : Jvm.MethodName)) ∈ lw_tbl := lw_at lw_m10 90 rfl
theorem q2514 : (Jvm.Cond.instanceMethod ({ cls := "OpcodeForgeModel", name := "indexName", desc := "()V" } : Jvm.MethodName)) ∈ lw_all := lw_g (lw_at lw_m10 91 rfl) rfl
theorem q2515 : (Jvm.Cond.code ({ cls := "OpcodeForgeModel", name := "indexName", desc := "()V" } : Jvm.MethodName) prog_12_method_91_code (1 : Nat) (Option.none : Option Jvm.ClassFile.FieldType)) ∈ lw_all := lw_g (lw_at lw_m10 92 rfl) rfl
theorem q2516 : (Jvm.Cond.methodLink "OpcodeForgeModel" (850 : Nat) ({ cls := "OpcodeForgeModel", name := "write237", desc := "()V" } : Jvm.MethodName)) ∈ lw_all := lw_g (lw_at lw_m10 93 rfl) rfl
theorem q2517 : (Jvm.Cond.privateMethod ({ cls := "OpcodeForgeModel", name := "write237", desc := "()V" } : Jvm.MethodName)) ∈ lw_tbl := lw_at lw_m10 94 rfl
theorem q2518 : (Jvm.Cond.instanceMethod ({ cls := "OpcodeForgeModel", name := "write237", desc := "()V" } : Jvm.MethodName)) ∈ lw_all := lw_g (lw_at lw_m10 95 rfl) rfl
theorem q2519 : (Jvm.Cond.code ({ cls := "OpcodeForgeModel", name := "write237", desc := "()V" } : Jvm.MethodName) prog_12_method_104_code (5 : Nat) (Option.none : Option Jvm.ClassFile.FieldType)) ∈ lw_all := lw_g (lw_at lw_m10 96 rfl) rfl
theorem q2520 : (Jvm.Cond.constantLong "OpcodeForgeModel" (800 : Nat) (20308 : Int64)) ∈ lw_all := lw_g (lw_at lw_m10 97 rfl) rfl
theorem q2521 : (Jvm.Cond.constantLong "OpcodeForgeModel" (802 : Nat) (4804128 : Int64)) ∈ lw_all := lw_g (lw_at lw_m10 98 rfl) rfl
theorem q2522 : (Jvm.Cond.constantLong "OpcodeForgeModel" (804 : Nat) (740836137 : Int64)) ∈ lw_all := lw_g (lw_at lw_m10 99 rfl) rfl
theorem q2523 : (Jvm.Cond.constantLong "OpcodeForgeModel" (806 : Nat) (5716567799107889452 : Int64)) ∈ lw_all := lw_g (lw_at lw_m10 100 rfl) rfl
theorem q2524 : (Jvm.Cond.constantLong "OpcodeForgeModel" (808 : Nat) (18370928581299244 : Int64)) ∈ lw_all := lw_g (lw_at lw_m10 101 rfl) rfl
theorem q2525 : (Jvm.Cond.constantLong "OpcodeForgeModel" (810 : Nat) (23435279138835500 : Int64)) ∈ lw_all := lw_g (lw_at lw_m10 102 rfl) rfl
theorem q2526 : (Jvm.Cond.methodLink "OpcodeForgeModel" (742 : Nat) ({ cls := "OpcodeForgeModel", name := "pairName", desc := "(IZ)V" } : Jvm.MethodName)) ∈ lw_all := lw_g (lw_at lw_m10 103 rfl) rfl
theorem q2527 : (Jvm.Cond.privateMethod ({ cls := "OpcodeForgeModel", name := "pairName", desc := "(IZ)V" } : Jvm.MethodName)) ∈ lw_tbl := lw_at lw_m10 104 rfl
theorem q2528 : (Jvm.Cond.instanceMethod ({ cls := "OpcodeForgeModel", name := "pairName", desc := "(IZ)V" } : Jvm.MethodName)) ∈ lw_all := lw_g (lw_at lw_m10 105 rfl) rfl
theorem q2529 : (Jvm.Cond.code ({ cls := "OpcodeForgeModel", name := "pairName", desc := "(IZ)V" } : Jvm.MethodName) prog_12_method_93_code (3 : Nat) (Option.none : Option Jvm.ClassFile.FieldType)) ∈ lw_all := lw_g (lw_at lw_m10 106 rfl) rfl
theorem q2530 : (Jvm.Cond.constantLong "OpcodeForgeModel" (746 : Nat) (4998176 : Int64)) ∈ lw_all := lw_g (lw_at lw_m10 107 rfl) rfl
theorem q2531 : (Jvm.Cond.methodLink "OpcodeForgeModel" (765 : Nat) ({ cls := "OpcodeForgeModel", name := "placeM", desc := "()V" } : Jvm.MethodName)) ∈ lw_all := lw_g (lw_at lw_m10 108 rfl) rfl
theorem q2532 : (Jvm.Cond.privateMethod ({ cls := "OpcodeForgeModel", name := "placeM", desc := "()V" } : Jvm.MethodName)) ∈ lw_tbl := lw_at lw_m10 109 rfl
theorem q2533 : (Jvm.Cond.instanceMethod ({ cls := "OpcodeForgeModel", name := "placeM", desc := "()V" } : Jvm.MethodName)) ∈ lw_all := lw_g (lw_at lw_m10 110 rfl) rfl
theorem q2534 : (Jvm.Cond.code ({ cls := "OpcodeForgeModel", name := "placeM", desc := "()V" } : Jvm.MethodName) prog_12_method_97_code (1 : Nat) (Option.none : Option Jvm.ClassFile.FieldType)) ∈ lw_all := lw_g (lw_at lw_m10 111 rfl) rfl
theorem q2535 : (Jvm.Cond.methodLink "OpcodeForgeModel" (725 : Nat) ({ cls := "OpcodeForgeModel", name := "m", desc := "()V" } : Jvm.MethodName)) ∈ lw_all := lw_g (lw_at lw_m10 112 rfl) rfl
theorem q2536 : (Jvm.Cond.privateMethod ({ cls := "OpcodeForgeModel", name := "m", desc := "()V" } : Jvm.MethodName)) ∈ lw_tbl := lw_at lw_m10 113 rfl
theorem q2537 : (Jvm.Cond.instanceMethod ({ cls := "OpcodeForgeModel", name := "m", desc := "()V" } : Jvm.MethodName)) ∈ lw_all := lw_g (lw_at lw_m10 114 rfl) rfl
theorem q2538 : (Jvm.Cond.code ({ cls := "OpcodeForgeModel", name := "m", desc := "()V" } : Jvm.MethodName) prog_12_method_96_code (1 : Nat) (Option.none : Option Jvm.ClassFile.FieldType)) ∈ lw_all := lw_g (lw_at lw_m10 115 rfl) rfl
theorem q2539 : (Jvm.Cond.methodLink "OpcodeForgeModel" (722 : Nat) ({ cls := "OpcodeForgeModel", name := "wide", desc := "(I)I" } : Jvm.MethodName)) ∈ lw_all := lw_g (lw_at lw_m10 116 rfl) rfl
theorem q2540 : (Jvm.Cond.privateMethod ({ cls := "OpcodeForgeModel", name := "wide", desc := "(I)I" } : Jvm.MethodName)) ∈ lw_tbl := lw_at lw_m10 117 rfl
theorem q2541 : (Jvm.Cond.instanceMethod ({ cls := "OpcodeForgeModel", name := "wide", desc := "(I)I" } : Jvm.MethodName)) ∈ lw_all := lw_g (lw_at lw_m10 118 rfl) rfl
theorem q2542 : (Jvm.Cond.code ({ cls := "OpcodeForgeModel", name := "wide", desc := "(I)I" } : Jvm.MethodName) prog_12_method_80_code (2 : Nat) (Option.some Jvm.ClassFile.FieldType.int)) ∈ lw_all := lw_g (lw_at lw_m10 119 rfl) rfl
theorem q2543 : (Jvm.Cond.constantLong "OpcodeForgeModel" (812 : Nat) (4803872 : Int64)) ∈ lw_all := lw_g (lw_at lw_m10 120 rfl) rfl
theorem q2544 : (Jvm.Cond.constantLong "OpcodeForgeModel" (814 : Nat) (83855483153473 : Int64)) ∈ lw_all := lw_g (lw_at lw_m10 121 rfl) rfl
theorem q2545 : (Jvm.Cond.constantLong "OpcodeForgeModel" (816 : Nat) (83855483743297 : Int64)) ∈ lw_all := lw_g (lw_at lw_m10 122 rfl) rfl
theorem q2546 : (Jvm.Cond.constantLong "OpcodeForgeModel" (818 : Nat) (83855482629193 : Int64)) ∈ lw_all := lw_g (lw_at lw_m10 123 rfl) rfl
theorem q2547 : (Jvm.Cond.constantLong "OpcodeForgeModel" (820 : Nat) (83855482629202 : Int64)) ∈ lw_all := lw_g (lw_at lw_m10 124 rfl) rfl
theorem q2548 : (Jvm.Cond.methodLink "OpcodeForgeModel" (853 : Nat) ({ cls := "OpcodeForgeModel", name := "writeFirst", desc := "(I)V" } : Jvm.MethodName)) ∈ lw_all := lw_g (lw_at lw_m10 125 rfl) rfl
theorem q2549 : (Jvm.Cond.privateMethod ({ cls := "OpcodeForgeModel", name := "writeFirst", desc := "(I)V" } : Jvm.MethodName)) ∈ lw_tbl := lw_at lw_m10 126 rfl
theorem q2550 : (Jvm.Cond.instanceMethod ({ cls := "OpcodeForgeModel", name := "writeFirst", desc := "(I)V" } : Jvm.MethodName)) ∈ lw_all := lw_g (lw_at lw_m10 127 rfl) rfl
theorem q2551 : (Jvm.Cond.code ({ cls := "OpcodeForgeModel", name := "writeFirst", desc := "(I)V" } : Jvm.MethodName) prog_12_method_100_code (6 : Nat) (Option.none : Option Jvm.ClassFile.FieldType)) ∈ lw_all := lw_g (lw_at lw_m10 128 rfl) rfl
theorem q2552 : (Jvm.Cond.constantLong "OpcodeForgeModel" (728 : Nat) (76244800587308 : Int64)) ∈ lw_all := lw_g (lw_at lw_m10 129 rfl) rfl
theorem q2553 : (Jvm.Cond.constantLong "OpcodeForgeModel" (730 : Nat) (293304424992 : Int64)) ∈ lw_all := lw_g (lw_at lw_m10 130 rfl) rfl
theorem q2554 : (Jvm.Cond.constantLong "OpcodeForgeModel" (732 : Nat) (4870688 : Int64)) ∈ lw_all := lw_g (lw_at lw_m10 131 rfl) rfl
theorem q2555 : (Jvm.Cond.methodLink "OpcodeForgeModel" (734 : Nat) ({ cls := "OpcodeForgeModel", name := "conditionName", desc := "(I)V" } : Jvm.MethodName)) ∈ lw_all := lw_g (lw_at lw_m10 132 rfl) rfl
theorem q2556 : (Jvm.Cond.privateMethod ({ cls := "OpcodeForgeModel", name := "conditionName", desc := "(I)V" } : Jvm.MethodName)) ∈ lw_tbl := lw_at lw_m10 133 rfl
theorem q2557 : (Jvm.Cond.instanceMethod ({ cls := "OpcodeForgeModel", name := "conditionName", desc := "(I)V" } : Jvm.MethodName)) ∈ lw_all := lw_g (lw_at lw_m10 134 rfl) rfl
theorem q2558 : (Jvm.Cond.code ({ cls := "OpcodeForgeModel", name := "conditionName", desc := "(I)V" } : Jvm.MethodName) prog_12_method_94_code (2 : Nat) (Option.none : Option Jvm.ClassFile.FieldType)) ∈ lw_all := lw_g (lw_at lw_m10 135 rfl) rfl
theorem q2559 : (Jvm.Cond.methodLink "OpcodeForgeModel" (737 : Nat) ({ cls := "OpcodeForgeModel", name := "near", desc := "(I)V" } : Jvm.MethodName)) ∈ lw_all := lw_g (lw_at lw_m10 136 rfl) rfl
theorem q2560 : (Jvm.Cond.privateMethod ({ cls := "OpcodeForgeModel", name := "near", desc := "(I)V" } : Jvm.MethodName)) ∈ lw_tbl := lw_at lw_m10 137 rfl
theorem q2561 : (Jvm.Cond.instanceMethod ({ cls := "OpcodeForgeModel", name := "near", desc := "(I)V" } : Jvm.MethodName)) ∈ lw_all := lw_g (lw_at lw_m10 138 rfl) rfl
theorem q2562 : (Jvm.Cond.code ({ cls := "OpcodeForgeModel", name := "near", desc := "(I)V" } : Jvm.MethodName) prog_12_method_99_code (2 : Nat) (Option.none : Option Jvm.ClassFile.FieldType)) ∈ lw_all := lw_g (lw_at lw_m10 139 rfl) rfl
theorem q2563 : (Jvm.Cond.constantLong "OpcodeForgeModel" (740 : Nat) (1094992928 : Int64)) ∈ lw_all := lw_g (lw_at lw_m10 140 rfl) rfl
theorem q2564 : (Jvm.Cond.methodLink "OpcodeForgeModel" (748 : Nat) ({ cls := "OpcodeForgeModel", name := "writeLoad", desc := "(I)V" } : Jvm.MethodName)) ∈ lw_all := lw_g (lw_at lw_m10 141 rfl) rfl
theorem q2565 : (Jvm.Cond.privateMethod ({ cls := "OpcodeForgeModel", name := "writeLoad", desc := "(I)V" } : Jvm.MethodName)) ∈ lw_tbl := lw_at lw_m10 142 rfl
theorem q2566 : (Jvm.Cond.instanceMethod ({ cls := "OpcodeForgeModel", name := "writeLoad", desc := "(I)V" } : Jvm.MethodName)) ∈ lw_all := lw_g (lw_at lw_m10 143 rfl) rfl
theorem q2567 : (Jvm.Cond.code ({ cls := "OpcodeForgeModel", name := "writeLoad", desc := "(I)V" } : Jvm.MethodName) prog_12_method_101_code (4 : Nat) (Option.none : Option Jvm.ClassFile.FieldType)) ∈ lw_all := lw_g (lw_at lw_m10 144 rfl) rfl
theorem q2568 : (Jvm.Cond.constantLong "OpcodeForgeModel" (761 : Nat) (675431209 : Int64)) ∈ lw_all := lw_g (lw_at lw_m10 145 rfl) rfl
theorem q2569 : (Jvm.Cond.constantLong "OpcodeForgeModel" (763 : Nat) (675562793 : Int64)) ∈ lw_all := lw_g (lw_at lw_m10 146 rfl) rfl
theorem q2570 : (Jvm.Cond.constantLong "OpcodeForgeModel" (751 : Nat) (1145389856 : Int64)) ∈ lw_all := lw_g (lw_at lw_m10 147 rfl) rfl
theorem q2571 : (Jvm.Cond.constantLong "OpcodeForgeModel" (753 : Nat) (1229865760 : Int64)) ∈ lw_all := lw_g (lw_at lw_m10 148 rfl) rfl
theorem q2572 : (Jvm.Cond.methodLink "OpcodeForgeModel" (758 : Nat) ({ cls := "OpcodeForgeModel", name := "n", desc := "()V" } : Jvm.MethodName)) ∈ lw_all := lw_g (lw_at lw_m10 149 rfl) rfl
theorem q2573 : (Jvm.Cond.privateMethod ({ cls := "OpcodeForgeModel", name := "n", desc := "()V" } : Jvm.MethodName)) ∈ lw_tbl := lw_at lw_m10 150 rfl
theorem q2574 : (Jvm.Cond.instanceMethod ({ cls := "OpcodeForgeModel", name := "n", desc := "()V" } : Jvm.MethodName)) ∈ lw_all := lw_g (lw_at lw_m10 151 rfl) rfl
theorem q2575 : (Jvm.Cond.code ({ cls := "OpcodeForgeModel", name := "n", desc := "()V" } : Jvm.MethodName) prog_12_method_98_code (1 : Nat) (Option.none : Option Jvm.ClassFile.FieldType)) ∈ lw_all := lw_g (lw_at lw_m10 152 rfl) rfl
theorem q2576 : (Jvm.Cond.methodLink "OpcodeForgeModel" (856 : Nat) ({ cls := "OpcodeForgeModel", name := "writeLast", desc := "()V" } : Jvm.MethodName)) ∈ lw_all := lw_g (lw_at lw_m10 153 rfl) rfl
theorem q2577 : (Jvm.Cond.privateMethod ({ cls := "OpcodeForgeModel", name := "writeLast", desc := "()V" } : Jvm.MethodName)) ∈ lw_tbl := lw_at lw_m10 154 rfl
theorem q2578 : (Jvm.Cond.instanceMethod ({ cls := "OpcodeForgeModel", name := "writeLast", desc := "()V" } : Jvm.MethodName)) ∈ lw_all := lw_g (lw_at lw_m10 155 rfl) rfl
theorem q2579 : (Jvm.Cond.code ({ cls := "OpcodeForgeModel", name := "writeLast", desc := "()V" } : Jvm.MethodName) prog_12_method_102_code (5 : Nat) (Option.none : Option Jvm.ClassFile.FieldType)) ∈ lw_all := lw_g (lw_at lw_m10 156 rfl) rfl
theorem q2580 : (Jvm.Cond.constantLong "OpcodeForgeModel" (768 : Nat) (1380275232 : Int64)) ∈ lw_all := lw_g (lw_at lw_m10 157 rfl) rfl
theorem q2581 : (Jvm.Cond.constantLong "OpcodeForgeModel" (770 : Nat) (1347375136 : Int64)) ∈ lw_all := lw_g (lw_at lw_m10 158 rfl) rfl
theorem q2582 : (Jvm.Cond.constantLong "OpcodeForgeModel" (772 : Nat) (1246765096 : Int64)) ∈ lw_all := lw_g (lw_at lw_m10 159 rfl) rfl
theorem q2583 : (Jvm.Cond.constantLong "OpcodeForgeModel" (774 : Nat) (83855483818028 : Int64)) ∈ lw_all := lw_g (lw_at lw_m10 160 rfl) rfl
theorem q2584 : (Jvm.Cond.constantLong "OpcodeForgeModel" (776 : Nat) (4870176 : Int64)) ∈ lw_all := lw_g (lw_at lw_m10 161 rfl) rfl
theorem q2585 : (Jvm.Cond.constantLong "OpcodeForgeModel" (778 : Nat) (288858328096 : Int64)) ∈ lw_all := lw_g (lw_at lw_m10 162 rfl) rfl
theorem q2586 : (Jvm.Cond.methodLink "OpcodeForgeModel" (780 : Nat) ({ cls := "OpcodeForgeModel", name := "writeThird", desc := "(I)V" } : Jvm.MethodName)) ∈ lw_all := lw_g (lw_at lw_m10 163 rfl) rfl
theorem q2587 : (Jvm.Cond.privateMethod ({ cls := "OpcodeForgeModel", name := "writeThird", desc := "(I)V" } : Jvm.MethodName)) ∈ lw_tbl := lw_at lw_m10 164 rfl
theorem q2588 : (Jvm.Cond.instanceMethod ({ cls := "OpcodeForgeModel", name := "writeThird", desc := "(I)V" } : Jvm.MethodName)) ∈ lw_all := lw_g (lw_at lw_m10 165 rfl) rfl
theorem q2589 : (Jvm.Cond.code ({ cls := "OpcodeForgeModel", name := "writeThird", desc := "(I)V" } : Jvm.MethodName) prog_12_method_103_code (2 : Nat) (Option.none : Option Jvm.ClassFile.FieldType)) ∈ lw_all := lw_g (lw_at lw_m10 166 rfl) rfl
theorem q2590 : (Jvm.Cond.constantLong "OpcodeForgeModel" (790 : Nat) (340733993000 : Int64)) ∈ lw_all := lw_g (lw_at lw_m10 167 rfl) rfl
theorem q2591 : (Jvm.Cond.constantLong "OpcodeForgeModel" (792 : Nat) (2698305 : Int64)) ∈ lw_all := lw_g (lw_at lw_m10 168 rfl) rfl
theorem q2592 : (Jvm.Cond.constantLong "OpcodeForgeModel" (794 : Nat) (80599897418792 : Int64)) ∈ lw_all := lw_g (lw_at lw_m10 169 rfl) rfl
theorem q2593 : (Jvm.Cond.constantLong "OpcodeForgeModel" (796 : Nat) (4996779144136108332 : Int64)) ∈ lw_all := lw_g (lw_at lw_m10 170 rfl) rfl
theorem q2594 : (Jvm.Cond.constantLong "OpcodeForgeModel" (798 : Nat) (4996779264157960268 : Int64)) ∈ lw_all := lw_g (lw_at lw_m10 171 rfl) rfl
theorem q2595 : (Jvm.Cond.constantLong "OpcodeForgeModel" (783 : Nat) (345028904992 : Int64)) ∈ lw_all := lw_g (lw_at lw_m10 172 rfl) rfl
theorem q2596 : (Jvm.Cond.methodLink "OpcodeForgeModel" (785 : Nat) ({ cls := "OpcodeForgeModel", name := "sumName", desc := "(I)V" } : Jvm.MethodName)) ∈ lw_all := lw_g (lw_at lw_m10 173 rfl) rfl
theorem q2597 : (Jvm.Cond.privateMethod ({ cls := "OpcodeForgeModel", name := "sumName", desc := "(I)V" } : Jvm.MethodName)) ∈ lw_tbl := lw_at lw_m10 174 rfl
theorem q2598 : (Jvm.Cond.instanceMethod ({ cls := "OpcodeForgeModel", name := "sumName", desc := "(I)V" } : Jvm.MethodName)) ∈ lw_all := lw_g (lw_at lw_m10 175 rfl) rfl
theorem q2599 : (Jvm.Cond.code ({ cls := "OpcodeForgeModel", name := "sumName", desc := "(I)V" } : Jvm.MethodName) prog_12_method_95_code (2 : Nat) (Option.none : Option Jvm.ClassFile.FieldType)) ∈ lw_all := lw_g (lw_at lw_m10 176 rfl) rfl
theorem q2600 : (Jvm.Cond.constantLong "OpcodeForgeModel" (706 : Nat) (71761456546092 : Int64)) ∈ lw_all := lw_g (lw_at lw_m10 177 rfl) rfl
theorem q2601 : (Jvm.Cond.constantLong "OpcodeForgeModel" (708 : Nat) (71761439768876 : Int64)) ∈ lw_all := lw_g (lw_at lw_m10 178 rfl) rfl
theorem q2602 : (Jvm.Cond.constantLong "OpcodeForgeModel" (710 : Nat) (1398096416 : Int64)) ∈ lw_all := lw_g (lw_at lw_m10 179 rfl) rfl
theorem q2603 : (Jvm.Cond.constantLong "OpcodeForgeModel" (712 : Nat) (91544059134252 : Int64)) ∈ lw_all := lw_g (lw_at lw_m10 180 rfl) rfl
theorem q2604 : (Jvm.Cond.constantLong "OpcodeForgeModel" (714 : Nat) (1095648288 : Int64)) ∈ lw_all := lw_g (lw_at lw_m10 181 rfl) rfl
theorem q2605 : (Jvm.Cond.constantLong "OpcodeForgeModel" (716 : Nat) (1481593376 : Int64)) ∈ lw_all := lw_g (lw_at lw_m10 182 rfl) rfl
theorem q2606 : (Jvm.Cond.constantLong "OpcodeForgeModel" (718 : Nat) (5198368 : Int64)) ∈ lw_all := lw_g (lw_at lw_m10 183 rfl) rfl
theorem q2607 : (Jvm.Cond.constantLong "OpcodeForgeModel" (720 : Nat) (4411424 : Int64)) ∈ lw_all := lw_g (lw_at lw_m10 184 rfl) rfl
theorem q2608 : (Jvm.Cond.constantLong "OpcodeForgeModel" (788 : Nat) (1381192736 : Int64)) ∈ lw_all := lw_g (lw_at lw_m10 185 rfl) rfl
theorem q2610 : (Jvm.Cond.instanceMethod ({ cls := "OpcodeForgeModel", name := "sign", desc := "(I)I" } : Jvm.MethodName)) ∈ lw_all := lw_g (lw_at lw_m10 187 rfl) rfl
theorem q2611 : (Jvm.Cond.selects "OpcodeForgeModel" ({ cls := "OpcodeForgeModel", name := "sign", desc := "(I)I" } : Jvm.MethodName) ({ cls := "OpcodeForgeModel", name := "sign", desc := "(I)I" } : Jvm.MethodName)) ∈ lw_all := lw_g (lw_at lw_m10 188 rfl) rfl
theorem q2612 : (Jvm.Cond.code ({ cls := "OpcodeForgeModel", name := "sign", desc := "(I)I" } : Jvm.MethodName) prog_12_method_108_code (2 : Nat) (Option.some Jvm.ClassFile.FieldType.int)) ∈ lw_all := lw_g (lw_at lw_m10 189 rfl) rfl
theorem q2614 : (Jvm.Cond.instanceMethod ({ cls := "OpcodeForgeModel", name := "source", desc := "(II)I" } : Jvm.MethodName)) ∈ lw_all := lw_g (lw_at lw_m10 191 rfl) rfl
theorem q2615 : (Jvm.Cond.selects "OpcodeForgeModel" ({ cls := "OpcodeForgeModel", name := "source", desc := "(II)I" } : Jvm.MethodName) ({ cls := "OpcodeForgeModel", name := "source", desc := "(II)I" } : Jvm.MethodName)) ∈ lw_all := lw_g (lw_at lw_m10 192 rfl) rfl
theorem q2616 : (Jvm.Cond.code ({ cls := "OpcodeForgeModel", name := "source", desc := "(II)I" } : Jvm.MethodName) prog_12_method_109_code (7 : Nat) (Option.some Jvm.ClassFile.FieldType.int)) ∈ lw_all := lw_g (lw_at lw_m10 193 rfl) rfl
theorem q2617 : (Jvm.Cond.constantLong "OpcodeForgeModel" (865 : Nat) (1330792224 : Int64)) ∈ lw_all := lw_g (lw_at lw_m10 194 rfl) rfl
theorem q2619 : (Jvm.Cond.instanceMethod ({ cls := "OpcodeForgeModel", name := "octet", desc := "(I)I" } : Jvm.MethodName)) ∈ lw_all := lw_g (lw_at lw_m10 196 rfl) rfl
theorem q2620 : (Jvm.Cond.selects "OpcodeForgeModel" ({ cls := "OpcodeForgeModel", name := "octet", desc := "(I)I" } : Jvm.MethodName) ({ cls := "OpcodeForgeModel", name := "octet", desc := "(I)I" } : Jvm.MethodName)) ∈ lw_all := lw_g (lw_at lw_m10 197 rfl) rfl
theorem q2621 : (Jvm.Cond.code ({ cls := "OpcodeForgeModel", name := "octet", desc := "(I)I" } : Jvm.MethodName) prog_12_method_110_code (2 : Nat) (Option.some Jvm.ClassFile.FieldType.int)) ∈ lw_all := lw_g (lw_at lw_m10 198 rfl) rfl
theorem q2623 : (Jvm.Cond.instanceMethod ({ cls := "OpcodeForgeModel", name := "put", desc := "(II)I" } : Jvm.MethodName)) ∈ lw_all := lw_g (lw_at lw_m10 200 rfl) rfl
theorem q2624 : (Jvm.Cond.selects "OpcodeForgeModel" ({ cls := "OpcodeForgeModel", name := "put", desc := "(II)I" } : Jvm.MethodName) ({ cls := "OpcodeForgeModel", name := "put", desc := "(II)I" } : Jvm.MethodName)) ∈ lw_all := lw_g (lw_at lw_m10 201 rfl) rfl
theorem q2625 : (Jvm.Cond.code ({ cls := "OpcodeForgeModel", name := "put", desc := "(II)I" } : Jvm.MethodName) prog_12_method_111_code (4 : Nat) (Option.some Jvm.ClassFile.FieldType.int)) ∈ lw_all := lw_g (lw_at lw_m10 202 rfl) rfl
theorem q2627 : (Jvm.Cond.instanceMethod ({ cls := "OpcodeForgeModel", name := "clear", desc := "()V" } : Jvm.MethodName)) ∈ lw_all := lw_g (lw_at lw_m10 204 rfl) rfl
theorem q2628 : (Jvm.Cond.selects "OpcodeForgeModel" ({ cls := "OpcodeForgeModel", name := "clear", desc := "()V" } : Jvm.MethodName) ({ cls := "OpcodeForgeModel", name := "clear", desc := "()V" } : Jvm.MethodName)) ∈ lw_all := lw_g (lw_at lw_m10 205 rfl) rfl
theorem q2629 : (Jvm.Cond.code ({ cls := "OpcodeForgeModel", name := "clear", desc := "()V" } : Jvm.MethodName) prog_12_method_112_code (2 : Nat) (Option.none : Option Jvm.ClassFile.FieldType)) ∈ lw_all := lw_g (lw_at lw_m10 206 rfl) rfl
theorem q2631 : (Jvm.Cond.instanceMethod ({ cls := "OpcodeForgeModel", name := "register", desc := "(I)I" } : Jvm.MethodName)) ∈ lw_all := lw_g (lw_at lw_m10 208 rfl) rfl
theorem q2632 : (Jvm.Cond.selects "OpcodeForgeModel" ({ cls := "OpcodeForgeModel", name := "register", desc := "(I)I" } : Jvm.MethodName) ({ cls := "OpcodeForgeModel", name := "register", desc := "(I)I" } : Jvm.MethodName)) ∈ lw_all := lw_g (lw_at lw_m10 209 rfl) rfl
theorem q2633 : (Jvm.Cond.code ({ cls := "OpcodeForgeModel", name := "register", desc := "(I)I" } : Jvm.MethodName) prog_12_method_116_code (2 : Nat) (Option.some Jvm.ClassFile.FieldType.int)) ∈ lw_all := lw_g (lw_at lw_m10 210 rfl) rfl
theorem q2634 : (Jvm.Cond.methodLink "OpcodeForgeModel" (900 : Nat) ({ cls := "OpcodeForgeModel", name := "at", desc := "(I)I" } : Jvm.MethodName)) ∈ lw_all := lw_g (lw_at lw_m10 211 rfl) rfl
theorem q2635 : (Jvm.Cond.privateMethod ({ cls := "OpcodeForgeModel", name := "at", desc := "(I)I" } : Jvm.MethodName)) ∈ lw_tbl := lw_at lw_m10 212 rfl
theorem q2636 : (Jvm.Cond.instanceMethod ({ cls := "OpcodeForgeModel", name := "at", desc := "(I)I" } : Jvm.MethodName)) ∈ lw_all := lw_g (lw_at lw_m10 213 rfl) rfl
theorem q2637 : (Jvm.Cond.code ({ cls := "OpcodeForgeModel", name := "at", desc := "(I)I" } : Jvm.MethodName) prog_12_method_115_code (2 : Nat) (Option.some Jvm.ClassFile.FieldType.int)) ∈ lw_all := lw_g (lw_at lw_m10 214 rfl) rfl
theorem q2638 : (Jvm.Cond.methodLink "OpcodeForgeModel" (897 : Nat) ({ cls := "OpcodeForgeModel", name := "two", desc := "(I)I" } : Jvm.MethodName)) ∈ lw_all := lw_g (lw_at lw_m10 215 rfl) rfl
theorem q2639 : (Jvm.Cond.privateMethod ({ cls := "OpcodeForgeModel", name := "two", desc := "(I)I" } : Jvm.MethodName)) ∈ lw_tbl := lw_at lw_m10 216 rfl
theorem q2640 : (Jvm.Cond.instanceMethod ({ cls := "OpcodeForgeModel", name := "two", desc := "(I)I" } : Jvm.MethodName)) ∈ lw_all := lw_g (lw_at lw_m10 217 rfl) rfl
theorem q2641 : (Jvm.Cond.code ({ cls := "OpcodeForgeModel", name := "two", desc := "(I)I" } : Jvm.MethodName) prog_12_method_113_code (2 : Nat) (Option.some Jvm.ClassFile.FieldType.int)) ∈ lw_all := lw_g (lw_at lw_m10 218 rfl) rfl
theorem q2643 : (Jvm.Cond.instanceMethod ({ cls := "OpcodeForgeModel", name := "set", desc := "(II)I" } : Jvm.MethodName)) ∈ lw_all := lw_g (lw_at lw_m10 220 rfl) rfl
theorem q2644 : (Jvm.Cond.selects "OpcodeForgeModel" ({ cls := "OpcodeForgeModel", name := "set", desc := "(II)I" } : Jvm.MethodName) ({ cls := "OpcodeForgeModel", name := "set", desc := "(II)I" } : Jvm.MethodName)) ∈ lw_all := lw_g (lw_at lw_m10 221 rfl) rfl
theorem q2645 : (Jvm.Cond.code ({ cls := "OpcodeForgeModel", name := "set", desc := "(II)I" } : Jvm.MethodName) prog_12_method_117_code (5 : Nat) (Option.some Jvm.ClassFile.FieldType.int)) ∈ lw_all := lw_g (lw_at lw_m10 222 rfl) rfl
theorem q2646 : (Jvm.Cond.methodLink "OpcodeForgeModel" (902 : Nat) ({ cls := "OpcodeForgeModel", name := "setTwo", desc := "(II)V" } : Jvm.MethodName)) ∈ lw_all := lw_g (lw_at lw_m10 223 rfl) rfl
theorem q2647 : (Jvm.Cond.privateMethod ({ cls := "OpcodeForgeModel", name := "setTwo", desc := "(II)V" } : Jvm.MethodName)) ∈ lw_tbl := lw_at lw_m10 224 rfl
theorem q2648 : (Jvm.Cond.instanceMethod ({ cls := "OpcodeForgeModel", name := "setTwo", desc := "(II)V" } : Jvm.MethodName)) ∈ lw_all := lw_g (lw_at lw_m10 225 rfl) rfl
theorem q2649 : (Jvm.Cond.code ({ cls := "OpcodeForgeModel", name := "setTwo", desc := "(II)V" } : Jvm.MethodName) prog_12_method_114_code (3 : Nat) (Option.none : Option Jvm.ClassFile.FieldType)) ∈ lw_all := lw_g (lw_at lw_m10 226 rfl) rfl
theorem q2651 : (Jvm.Cond.instanceMethod ({ cls := "OpcodeForgeModel", name := "port", desc := "(II)I" } : Jvm.MethodName)) ∈ lw_all := lw_g (lw_at lw_m10 228 rfl) rfl
theorem q2652 : (Jvm.Cond.selects "OpcodeForgeModel" ({ cls := "OpcodeForgeModel", name := "port", desc := "(II)I" } : Jvm.MethodName) ({ cls := "OpcodeForgeModel", name := "port", desc := "(II)I" } : Jvm.MethodName)) ∈ lw_all := lw_g (lw_at lw_m10 229 rfl) rfl
theorem q2653 : (Jvm.Cond.code ({ cls := "OpcodeForgeModel", name := "port", desc := "(II)I" } : Jvm.MethodName) prog_12_method_118_code (4 : Nat) (Option.some Jvm.ClassFile.FieldType.int)) ∈ lw_all := lw_g (lw_at lw_m10 230 rfl) rfl
theorem q2655 : (Jvm.Cond.instanceMethod ({ cls := "OpcodeForgeModel", name := "out", desc := "(I)I" } : Jvm.MethodName)) ∈ lw_all := lw_g (lw_at lw_m10 232 rfl) rfl
theorem q2656 : (Jvm.Cond.selects "OpcodeForgeModel" ({ cls := "OpcodeForgeModel", name := "out", desc := "(I)I" } : Jvm.MethodName) ({ cls := "OpcodeForgeModel", name := "out", desc := "(I)I" } : Jvm.MethodName)) ∈ lw_all := lw_g (lw_at lw_m10 233 rfl) rfl
theorem q2657 : (Jvm.Cond.code ({ cls := "OpcodeForgeModel", name := "out", desc := "(I)I" } : Jvm.MethodName) prog_12_method_119_code (2 : Nat) (Option.some Jvm.ClassFile.FieldType.int)) ∈ lw_all := lw_g (lw_at lw_m10 234 rfl) rfl
theorem q2659 : (Jvm.Cond.instanceMethod ({ cls := "OpcodeForgeModel", name := "outs", desc := "()J" } : Jvm.MethodName)) ∈ lw_all := lw_g (lw_at lw_m10 236 rfl) rfl
theorem q2660 : (Jvm.Cond.selects "OpcodeForgeModel" ({ cls := "OpcodeForgeModel", name := "outs", desc := "()J" } : Jvm.MethodName) ({ cls := "OpcodeForgeModel", name := "outs", desc := "()J" } : Jvm.MethodName)) ∈ lw_all := lw_g (lw_at lw_m10 237 rfl) rfl
theorem q2661 : (Jvm.Cond.code ({ cls := "OpcodeForgeModel", name := "outs", desc := "()J" } : Jvm.MethodName) prog_12_method_120_code (1 : Nat) (Option.some Jvm.ClassFile.FieldType.long)) ∈ lw_all := lw_g (lw_at lw_m10 238 rfl) rfl
theorem q2663 : (Jvm.Cond.instanceMethod ({ cls := "OpcodeForgeModel", name := "request", desc := "(II)I" } : Jvm.MethodName)) ∈ lw_all := lw_g (lw_at lw_m11 0 rfl) rfl
theorem q2664 : (Jvm.Cond.selects "OpcodeForgeModel" ({ cls := "OpcodeForgeModel", name := "request", desc := "(II)I" } : Jvm.MethodName) ({ cls := "OpcodeForgeModel", name := "request", desc := "(II)I" } : Jvm.MethodName)) ∈ lw_all := lw_g (lw_at lw_m11 1 rfl) rfl
theorem q2665 : (Jvm.Cond.code ({ cls := "OpcodeForgeModel", name := "request", desc := "(II)I" } : Jvm.MethodName) prog_12_method_121_code (4 : Nat) (Option.some Jvm.ClassFile.FieldType.int)) ∈ lw_all := lw_g (lw_at lw_m11 2 rfl) rfl
theorem q2667 : (Jvm.Cond.instanceMethod ({ cls := "OpcodeForgeModel", name := "step", desc := "()I" } : Jvm.MethodName)) ∈ lw_all := lw_g (lw_at lw_m11 4 rfl) rfl
theorem q2668 : (Jvm.Cond.selects "OpcodeForgeModel" ({ cls := "OpcodeForgeModel", name := "step", desc := "()I" } : Jvm.MethodName) ({ cls := "OpcodeForgeModel", name := "step", desc := "()I" } : Jvm.MethodName)) ∈ lw_all := lw_g (lw_at lw_m11 5 rfl) rfl
theorem q2669 : (Jvm.Cond.code ({ cls := "OpcodeForgeModel", name := "step", desc := "()I" } : Jvm.MethodName) prog_12_method_143_code (2 : Nat) (Option.some Jvm.ClassFile.FieldType.int)) ∈ lw_all := lw_g (lw_at lw_m11 6 rfl) rfl
theorem q2670 : (Jvm.Cond.methodLink "OpcodeForgeModel" (939 : Nat) ({ cls := "OpcodeForgeModel", name := "takeRequest", desc := "()Z" } : Jvm.MethodName)) ∈ lw_all := lw_g (lw_at lw_m11 7 rfl) rfl
theorem q2671 : (Jvm.Cond.privateMethod ({ cls := "OpcodeForgeModel", name := "takeRequest", desc := "()Z" } : Jvm.MethodName)) ∈ lw_tbl := lw_at lw_m11 8 rfl
theorem q2672 : (Jvm.Cond.instanceMethod ({ cls := "OpcodeForgeModel", name := "takeRequest", desc := "()Z" } : Jvm.MethodName)) ∈ lw_all := lw_g (lw_at lw_m11 9 rfl) rfl
theorem q2673 : (Jvm.Cond.code ({ cls := "OpcodeForgeModel", name := "takeRequest", desc := "()Z" } : Jvm.MethodName) prog_12_method_142_code (2 : Nat) (Option.some Jvm.ClassFile.FieldType.boolean)) ∈ lw_all := lw_g (lw_at lw_m11 10 rfl) rfl
theorem q2674 : (Jvm.Cond.methodLink "OpcodeForgeModel" (933 : Nat) ({ cls := "OpcodeForgeModel", name := "goOn", desc := "(I)V" } : Jvm.MethodName)) ∈ lw_all := lw_g (lw_at lw_m11 11 rfl) rfl
theorem q2675 : (Jvm.Cond.privateMethod ({ cls := "OpcodeForgeModel", name := "goOn", desc := "(I)V" } : Jvm.MethodName)) ∈ lw_tbl := lw_at lw_m11 12 rfl
theorem q2676 : (Jvm.Cond.instanceMethod ({ cls := "OpcodeForgeModel", name := "goOn", desc := "(I)V" } : Jvm.MethodName)) ∈ lw_all := lw_g (lw_at lw_m11 13 rfl) rfl
theorem q2677 : (Jvm.Cond.code ({ cls := "OpcodeForgeModel", name := "goOn", desc := "(I)V" } : Jvm.MethodName) prog_12_method_126_code (2 : Nat) (Option.none : Option Jvm.ClassFile.FieldType)) ∈ lw_all := lw_g (lw_at lw_m11 14 rfl) rfl
theorem q2678 : (Jvm.Cond.methodLink "OpcodeForgeModel" (936 : Nat) ({ cls := "OpcodeForgeModel", name := "pushTwo", desc := "(I)V" } : Jvm.MethodName)) ∈ lw_all := lw_g (lw_at lw_m11 15 rfl) rfl
theorem q2679 : (Jvm.Cond.privateMethod ({ cls := "OpcodeForgeModel", name := "pushTwo", desc := "(I)V" } : Jvm.MethodName)) ∈ lw_tbl := lw_at lw_m11 16 rfl
theorem q2680 : (Jvm.Cond.instanceMethod ({ cls := "OpcodeForgeModel", name := "pushTwo", desc := "(I)V" } : Jvm.MethodName)) ∈ lw_all := lw_g (lw_at lw_m11 17 rfl) rfl
theorem q2681 : (Jvm.Cond.code ({ cls := "OpcodeForgeModel", name := "pushTwo", desc := "(I)V" } : Jvm.MethodName) prog_12_method_123_code (2 : Nat) (Option.none : Option Jvm.ClassFile.FieldType)) ∈ lw_all := lw_g (lw_at lw_m11 18 rfl) rfl
theorem q2682 : (Jvm.Cond.methodLink "OpcodeForgeModel" (908 : Nat) ({ cls := "OpcodeForgeModel", name := "store", desc := "(II)V" } : Jvm.MethodName)) ∈ lw_all := lw_g (lw_at lw_m11 19 rfl) rfl
theorem q2683 : (Jvm.Cond.privateMethod ({ cls := "OpcodeForgeModel", name := "store", desc := "(II)V" } : Jvm.MethodName)) ∈ lw_tbl := lw_at lw_m11 20 rfl
theorem q2684 : (Jvm.Cond.instanceMethod ({ cls := "OpcodeForgeModel", name := "store", desc := "(II)V" } : Jvm.MethodName)) ∈ lw_all := lw_g (lw_at lw_m11 21 rfl) rfl
theorem q2685 : (Jvm.Cond.code ({ cls := "OpcodeForgeModel", name := "store", desc := "(II)V" } : Jvm.MethodName) prog_12_method_122_code (3 : Nat) (Option.none : Option Jvm.ClassFile.FieldType)) ∈ lw_all := lw_g (lw_at lw_m11 22 rfl) rfl
theorem q2686 : (Jvm.Cond.methodLink "OpcodeForgeModel" (942 : Nat) ({ cls := "OpcodeForgeModel", name := "do203", desc := "()V" } : Jvm.MethodName)) ∈ lw_all := lw_g (lw_at lw_m11 23 rfl) rfl
theorem q2687 : (Jvm.Cond.privateMethod ({ cls := "OpcodeForgeModel", name := "do203", desc := "()V" } : Jvm.MethodName)) ∈ lw_tbl := lw_at lw_m11 24 rfl
theorem q2688 : (Jvm.Cond.instanceMethod ({ cls := "OpcodeForgeModel", name := "do203", desc := "()V" } : Jvm.MethodName)) ∈ lw_all := lw_g (lw_at lw_m11 25 rfl) rfl
theorem q2689 : (Jvm.Cond.code ({ cls := "OpcodeForgeModel", name := "do203", desc := "()V" } : Jvm.MethodName) prog_12_method_145_code (5 : Nat) (Option.none : Option Jvm.ClassFile.FieldType)) ∈ lw_all := lw_g (lw_at lw_m11 26 rfl) rfl
theorem q2690 : (Jvm.Cond.methodLink "OpcodeForgeModel" (951 : Nat) ({ cls := "OpcodeForgeModel", name := "octetAt", desc := "(I)I" } : Jvm.MethodName)) ∈ lw_all := lw_g (lw_at lw_m11 27 rfl) rfl
theorem q2691 : (Jvm.Cond.privateMethod ({ cls := "OpcodeForgeModel", name := "octetAt", desc := "(I)I" } : Jvm.MethodName)) ∈ lw_tbl := lw_at lw_m11 28 rfl
theorem q2692 : (Jvm.Cond.instanceMethod ({ cls := "OpcodeForgeModel", name := "octetAt", desc := "(I)I" } : Jvm.MethodName)) ∈ lw_all := lw_g (lw_at lw_m11 29 rfl) rfl
theorem q2693 : (Jvm.Cond.code ({ cls := "OpcodeForgeModel", name := "octetAt", desc := "(I)I" } : Jvm.MethodName) prog_12_method_137_code (2 : Nat) (Option.some Jvm.ClassFile.FieldType.int)) ∈ lw_all := lw_g (lw_at lw_m11 30 rfl) rfl
theorem q2694 : (Jvm.Cond.methodLink "OpcodeForgeModel" (924 : Nat) ({ cls := "OpcodeForgeModel", name := "placeAt", desc := "()I" } : Jvm.MethodName)) ∈ lw_all := lw_g (lw_at lw_m11 31 rfl) rfl
theorem q2695 : (Jvm.Cond.privateMethod ({ cls := "OpcodeForgeModel", name := "placeAt", desc := "()I" } : Jvm.MethodName)) ∈ lw_tbl := lw_at lw_m11 32 rfl
theorem q2696 : (Jvm.Cond.instanceMethod ({ cls := "OpcodeForgeModel", name := "placeAt", desc := "()I" } : Jvm.MethodName)) ∈ lw_all := lw_g (lw_at lw_m11 33 rfl) rfl
theorem q2697 : (Jvm.Cond.code ({ cls := "OpcodeForgeModel", name := "placeAt", desc := "()I" } : Jvm.MethodName) prog_12_method_136_code (1 : Nat) (Option.some Jvm.ClassFile.FieldType.int)) ∈ lw_all := lw_g (lw_at lw_m11 34 rfl) rfl
theorem q2698 : (Jvm.Cond.methodLink "OpcodeForgeModel" (966 : Nat) ({ cls := "OpcodeForgeModel", name := "turned", desc := "(II)I" } : Jvm.MethodName)) ∈ lw_all := lw_g (lw_at lw_m11 35 rfl) rfl
theorem q2699 : (Jvm.Cond.privateMethod ({ cls := "OpcodeForgeModel", name := "turned", desc := "(II)I" } : Jvm.MethodName)) ∈ lw_tbl := lw_at lw_m11 36 rfl
theorem q2700 : (Jvm.Cond.instanceMethod ({ cls := "OpcodeForgeModel", name := "turned", desc := "(II)I" } : Jvm.MethodName)) ∈ lw_all := lw_g (lw_at lw_m11 37 rfl) rfl
theorem q2701 : (Jvm.Cond.code ({ cls := "OpcodeForgeModel", name := "turned", desc := "(II)I" } : Jvm.MethodName) prog_12_method_133_code (6 : Nat) (Option.some Jvm.ClassFile.FieldType.int)) ∈ lw_all := lw_g (lw_at lw_m11 38 rfl) rfl
theorem q2702 : (Jvm.Cond.methodLink "OpcodeForgeModel" (911 : Nat) ({ cls := "OpcodeForgeModel", name := "signs", desc := "(I)I" } : Jvm.MethodName)) ∈ lw_all := lw_g (lw_at lw_m11 39 rfl) rfl
theorem q2703 : (Jvm.Cond.privateMethod ({ cls := "OpcodeForgeModel", name := "signs", desc := "(I)I" } : Jvm.MethodName)) ∈ lw_tbl := lw_at lw_m11 40 rfl
theorem q2704 : (Jvm.Cond.instanceMethod ({ cls := "OpcodeForgeModel", name := "signs", desc := "(I)I" } : Jvm.MethodName)) ∈ lw_all := lw_g (lw_at lw_m11 41 rfl) rfl
theorem q2705 : (Jvm.Cond.code ({ cls := "OpcodeForgeModel", name := "signs", desc := "(I)I" } : Jvm.MethodName) prog_12_method_128_code (2 : Nat) (Option.some Jvm.ClassFile.FieldType.int)) ∈ lw_all := lw_g (lw_at lw_m11 42 rfl) rfl
theorem q2706 : (Jvm.Cond.methodLink "OpcodeForgeModel" (921 : Nat) ({ cls := "OpcodeForgeModel", name := "parity", desc := "(I)I" } : Jvm.MethodName)) ∈ lw_all := lw_g (lw_at lw_m11 43 rfl) rfl
theorem q2707 : (Jvm.Cond.privateMethod ({ cls := "OpcodeForgeModel", name := "parity", desc := "(I)I" } : Jvm.MethodName)) ∈ lw_tbl := lw_at lw_m11 44 rfl
theorem q2708 : (Jvm.Cond.instanceMethod ({ cls := "OpcodeForgeModel", name := "parity", desc := "(I)I" } : Jvm.MethodName)) ∈ lw_all := lw_g (lw_at lw_m11 45 rfl) rfl
theorem q2709 : (Jvm.Cond.code ({ cls := "OpcodeForgeModel", name := "parity", desc := "(I)I" } : Jvm.MethodName) prog_12_method_127_code (3 : Nat) (Option.some Jvm.ClassFile.FieldType.int)) ∈ lw_all := lw_g (lw_at lw_m11 46 rfl) rfl
theorem q2710 : (Jvm.Cond.methodLink "OpcodeForgeModel" (954 : Nat) ({ cls := "OpcodeForgeModel", name := "setOctet", desc := "(II)V" } : Jvm.MethodName)) ∈ lw_all := lw_g (lw_at lw_m11 47 rfl) rfl
theorem q2711 : (Jvm.Cond.privateMethod ({ cls := "OpcodeForgeModel", name := "setOctet", desc := "(II)V" } : Jvm.MethodName)) ∈ lw_tbl := lw_at lw_m11 48 rfl
theorem q2712 : (Jvm.Cond.instanceMethod ({ cls := "OpcodeForgeModel", name := "setOctet", desc := "(II)V" } : Jvm.MethodName)) ∈ lw_all := lw_g (lw_at lw_m11 49 rfl) rfl
theorem q2713 : (Jvm.Cond.code ({ cls := "OpcodeForgeModel", name := "setOctet", desc := "(II)V" } : Jvm.MethodName) prog_12_method_138_code (3 : Nat) (Option.none : Option Jvm.ClassFile.FieldType)) ∈ lw_all := lw_g (lw_at lw_m11 50 rfl) rfl
theorem q2714 : (Jvm.Cond.methodLink "OpcodeForgeModel" (945 : Nat) ({ cls := "OpcodeForgeModel", name := "do237", desc := "(I)V" } : Jvm.MethodName)) ∈ lw_all := lw_g (lw_at lw_m11 51 rfl) rfl
theorem q2715 : (Jvm.Cond.privateMethod ({ cls := "OpcodeForgeModel", name := "do237", desc := "(I)V" } : Jvm.MethodName)) ∈ lw_tbl := lw_at lw_m11 52 rfl
theorem q2716 : (Jvm.Cond.instanceMethod ({ cls := "OpcodeForgeModel", name := "do237", desc := "(I)V" } : Jvm.MethodName)) ∈ lw_all := lw_g (lw_at lw_m11 53 rfl) rfl
theorem q2717 : (Jvm.Cond.code ({ cls := "OpcodeForgeModel", name := "do237", desc := "(I)V" } : Jvm.MethodName) prog_12_method_156_code (8 : Nat) (Option.none : Option Jvm.ClassFile.FieldType)) ∈ lw_all := lw_g (lw_at lw_m11 54 rfl) rfl
theorem q2718 : (Jvm.Cond.methodLink "OpcodeForgeModel" (1011 : Nat) ({ cls := "OpcodeForgeModel", name := "doBlock", desc := "(III)V" } : Jvm.MethodName)) ∈ lw_all := lw_g (lw_at lw_m11 55 rfl) rfl
theorem q2719 : (Jvm.Cond.privateMethod ({ cls := "OpcodeForgeModel", name := "doBlock", desc := "(III)V" } : Jvm.MethodName)) ∈ lw_tbl := lw_at lw_m11 56 rfl
theorem q2720 : (Jvm.Cond.instanceMethod ({ cls := "OpcodeForgeModel", name := "doBlock", desc := "(III)V" } : Jvm.MethodName)) ∈ lw_all := lw_g (lw_at lw_m11 57 rfl) rfl
theorem q2721 : (Jvm.Cond.code ({ cls := "OpcodeForgeModel", name := "doBlock", desc := "(III)V" } : Jvm.MethodName) prog_12_method_159_code (15 : Nat) (Option.none : Option Jvm.ClassFile.FieldType)) ∈ lw_all := lw_g (lw_at lw_m11 58 rfl) rfl
theorem q2722 : (Jvm.Cond.methodLink "OpcodeForgeModel" (918 : Nat) ({ cls := "OpcodeForgeModel", name := "difference", desc := "(III)I" } : Jvm.MethodName)) ∈ lw_all := lw_g (lw_at lw_m11 59 rfl) rfl
theorem q2723 : (Jvm.Cond.privateMethod ({ cls := "OpcodeForgeModel", name := "difference", desc := "(III)I" } : Jvm.MethodName)) ∈ lw_tbl := lw_at lw_m11 60 rfl
theorem q2724 : (Jvm.Cond.instanceMethod ({ cls := "OpcodeForgeModel", name := "difference", desc := "(III)I" } : Jvm.MethodName)) ∈ lw_all := lw_g (lw_at lw_m11 61 rfl) rfl
theorem q2725 : (Jvm.Cond.code ({ cls := "OpcodeForgeModel", name := "difference", desc := "(III)I" } : Jvm.MethodName) prog_12_method_130_code (6 : Nat) (Option.some Jvm.ClassFile.FieldType.int)) ∈ lw_all := lw_g (lw_at lw_m11 62 rfl) rfl
theorem q2726 : (Jvm.Cond.methodLink "OpcodeForgeModel" (1021 : Nat) ({ cls := "OpcodeForgeModel", name := "portFlags", desc := "(II)V" } : Jvm.MethodName)) ∈ lw_all := lw_g (lw_at lw_m11 63 rfl) rfl
theorem q2727 : (Jvm.Cond.privateMethod ({ cls := "OpcodeForgeModel", name := "portFlags", desc := "(II)V" } : Jvm.MethodName)) ∈ lw_tbl := lw_at lw_m11 64 rfl
theorem q2728 : (Jvm.Cond.instanceMethod ({ cls := "OpcodeForgeModel", name := "portFlags", desc := "(II)V" } : Jvm.MethodName)) ∈ lw_all := lw_g (lw_at lw_m11 65 rfl) rfl
theorem q2729 : (Jvm.Cond.code ({ cls := "OpcodeForgeModel", name := "portFlags", desc := "(II)V" } : Jvm.MethodName) prog_12_method_160_code (3 : Nat) (Option.none : Option Jvm.ClassFile.FieldType)) ∈ lw_all := lw_g (lw_at lw_m11 66 rfl) rfl
theorem q2730 : (Jvm.Cond.methodLink "OpcodeForgeModel" (1008 : Nat) ({ cls := "OpcodeForgeModel", name := "outPort", desc := "(II)V" } : Jvm.MethodName)) ∈ lw_all := lw_g (lw_at lw_m11 67 rfl) rfl
theorem q2731 : (Jvm.Cond.privateMethod ({ cls := "OpcodeForgeModel", name := "outPort", desc := "(II)V" } : Jvm.MethodName)) ∈ lw_tbl := lw_at lw_m11 68 rfl
theorem q2732 : (Jvm.Cond.instanceMethod ({ cls := "OpcodeForgeModel", name := "outPort", desc := "(II)V" } : Jvm.MethodName)) ∈ lw_all := lw_g (lw_at lw_m11 69 rfl) rfl
theorem q2733 : (Jvm.Cond.code ({ cls := "OpcodeForgeModel", name := "outPort", desc := "(II)V" } : Jvm.MethodName) prog_12_method_125_code (3 : Nat) (Option.none : Option Jvm.ClassFile.FieldType)) ∈ lw_all := lw_g (lw_at lw_m11 70 rfl) rfl
theorem q2734 : (Jvm.Cond.methodLink "OpcodeForgeModel" (971 : Nat) ({ cls := "OpcodeForgeModel", name := "pairAt", desc := "(I)I" } : Jvm.MethodName)) ∈ lw_all := lw_g (lw_at lw_m11 71 rfl) rfl
theorem q2735 : (Jvm.Cond.privateMethod ({ cls := "OpcodeForgeModel", name := "pairAt", desc := "(I)I" } : Jvm.MethodName)) ∈ lw_tbl := lw_at lw_m11 72 rfl
theorem q2736 : (Jvm.Cond.instanceMethod ({ cls := "OpcodeForgeModel", name := "pairAt", desc := "(I)I" } : Jvm.MethodName)) ∈ lw_all := lw_g (lw_at lw_m11 73 rfl) rfl
theorem q2737 : (Jvm.Cond.code ({ cls := "OpcodeForgeModel", name := "pairAt", desc := "(I)I" } : Jvm.MethodName) prog_12_method_139_code (2 : Nat) (Option.some Jvm.ClassFile.FieldType.int)) ∈ lw_all := lw_g (lw_at lw_m11 74 rfl) rfl
theorem q2738 : (Jvm.Cond.methodLink "OpcodeForgeModel" (927 : Nat) ({ cls := "OpcodeForgeModel", name := "base", desc := "()I" } : Jvm.MethodName)) ∈ lw_all := lw_g (lw_at lw_m11 75 rfl) rfl
theorem q2739 : (Jvm.Cond.privateMethod ({ cls := "OpcodeForgeModel", name := "base", desc := "()I" } : Jvm.MethodName)) ∈ lw_tbl := lw_at lw_m11 76 rfl
theorem q2740 : (Jvm.Cond.instanceMethod ({ cls := "OpcodeForgeModel", name := "base", desc := "()I" } : Jvm.MethodName)) ∈ lw_all := lw_g (lw_at lw_m11 77 rfl) rfl
theorem q2741 : (Jvm.Cond.code ({ cls := "OpcodeForgeModel", name := "base", desc := "()I" } : Jvm.MethodName) prog_12_method_134_code (1 : Nat) (Option.some Jvm.ClassFile.FieldType.int)) ∈ lw_all := lw_g (lw_at lw_m11 78 rfl) rfl
theorem q2742 : (Jvm.Cond.methodLink "OpcodeForgeModel" (1014 : Nat) ({ cls := "OpcodeForgeModel", name := "wideSum", desc := "(IZ)V" } : Jvm.MethodName)) ∈ lw_all := lw_g (lw_at lw_m11 79 rfl) rfl
theorem q2743 : (Jvm.Cond.privateMethod ({ cls := "OpcodeForgeModel", name := "wideSum", desc := "(IZ)V" } : Jvm.MethodName)) ∈ lw_tbl := lw_at lw_m11 80 rfl
theorem q2744 : (Jvm.Cond.instanceMethod ({ cls := "OpcodeForgeModel", name := "wideSum", desc := "(IZ)V" } : Jvm.MethodName)) ∈ lw_all := lw_g (lw_at lw_m11 81 rfl) rfl
theorem q2745 : (Jvm.Cond.code ({ cls := "OpcodeForgeModel", name := "wideSum", desc := "(IZ)V" } : Jvm.MethodName) prog_12_method_157_code (8 : Nat) (Option.none : Option Jvm.ClassFile.FieldType)) ∈ lw_all := lw_g (lw_at lw_m11 82 rfl) rfl
theorem q2746 : (Jvm.Cond.constant "OpcodeForgeModel" (1020 : Nat) (32768 : Int32)) ∈ lw_all := lw_g (lw_at lw_m11 83 rfl) rfl
theorem q2747 : (Jvm.Cond.methodLink "OpcodeForgeModel" (977 : Nat) ({ cls := "OpcodeForgeModel", name := "setPair", desc := "(II)V" } : Jvm.MethodName)) ∈ lw_all := lw_g (lw_at lw_m11 84 rfl) rfl
theorem q2748 : (Jvm.Cond.privateMethod ({ cls := "OpcodeForgeModel", name := "setPair", desc := "(II)V" } : Jvm.MethodName)) ∈ lw_tbl := lw_at lw_m11 85 rfl
theorem q2749 : (Jvm.Cond.instanceMethod ({ cls := "OpcodeForgeModel", name := "setPair", desc := "(II)V" } : Jvm.MethodName)) ∈ lw_all := lw_g (lw_at lw_m11 86 rfl) rfl
theorem q2750 : (Jvm.Cond.code ({ cls := "OpcodeForgeModel", name := "setPair", desc := "(II)V" } : Jvm.MethodName) prog_12_method_140_code (3 : Nat) (Option.none : Option Jvm.ClassFile.FieldType)) ∈ lw_all := lw_g (lw_at lw_m11 87 rfl) rfl
theorem q2751 : (Jvm.Cond.methodLink "OpcodeForgeModel" (930 : Nat) ({ cls := "OpcodeForgeModel", name := "setBase", desc := "(I)V" } : Jvm.MethodName)) ∈ lw_all := lw_g (lw_at lw_m11 88 rfl) rfl
theorem q2752 : (Jvm.Cond.privateMethod ({ cls := "OpcodeForgeModel", name := "setBase", desc := "(I)V" } : Jvm.MethodName)) ∈ lw_tbl := lw_at lw_m11 89 rfl
theorem q2753 : (Jvm.Cond.instanceMethod ({ cls := "OpcodeForgeModel", name := "setBase", desc := "(I)V" } : Jvm.MethodName)) ∈ lw_all := lw_g (lw_at lw_m11 90 rfl) rfl
theorem q2754 : (Jvm.Cond.code ({ cls := "OpcodeForgeModel", name := "setBase", desc := "(I)V" } : Jvm.MethodName) prog_12_method_135_code (2 : Nat) (Option.none : Option Jvm.ClassFile.FieldType)) ∈ lw_all := lw_g (lw_at lw_m11 91 rfl) rfl
theorem q2755 : (Jvm.Cond.methodLink "OpcodeForgeModel" (999 : Nat) ({ cls := "OpcodeForgeModel", name := "popTwo", desc := "()I" } : Jvm.MethodName)) ∈ lw_all := lw_g (lw_at lw_m11 92 rfl) rfl
theorem q2756 : (Jvm.Cond.privateMethod ({ cls := "OpcodeForgeModel", name := "popTwo", desc := "()I" } : Jvm.MethodName)) ∈ lw_tbl := lw_at lw_m11 93 rfl
theorem q2757 : (Jvm.Cond.instanceMethod ({ cls := "OpcodeForgeModel", name := "popTwo", desc := "()I" } : Jvm.MethodName)) ∈ lw_all := lw_g (lw_at lw_m11 94 rfl) rfl
theorem q2758 : (Jvm.Cond.code ({ cls := "OpcodeForgeModel", name := "popTwo", desc := "()I" } : Jvm.MethodName) prog_12_method_124_code (2 : Nat) (Option.some Jvm.ClassFile.FieldType.int)) ∈ lw_all := lw_g (lw_at lw_m11 95 rfl) rfl
theorem q2759 : (Jvm.Cond.methodLink "OpcodeForgeModel" (1017 : Nat) ({ cls := "OpcodeForgeModel", name := "doHalves", desc := "(I)V" } : Jvm.MethodName)) ∈ lw_all := lw_g (lw_at lw_m11 96 rfl) rfl
theorem q2760 : (Jvm.Cond.privateMethod ({ cls := "OpcodeForgeModel", name := "doHalves", desc := "(I)V" } : Jvm.MethodName)) ∈ lw_tbl := lw_at lw_m11 97 rfl
theorem q2761 : (Jvm.Cond.instanceMethod ({ cls := "OpcodeForgeModel", name := "doHalves", desc := "(I)V" } : Jvm.MethodName)) ∈ lw_all := lw_g (lw_at lw_m11 98 rfl) rfl
theorem q2762 : (Jvm.Cond.code ({ cls := "OpcodeForgeModel", name := "doHalves", desc := "(I)V" } : Jvm.MethodName) prog_12_method_158_code (4 : Nat) (Option.none : Option Jvm.ClassFile.FieldType)) ∈ lw_all := lw_g (lw_at lw_m11 99 rfl) rfl
theorem q2763 : (Jvm.Cond.methodLink "OpcodeForgeModel" (948 : Nat) ({ cls := "OpcodeForgeModel", name := "doFirst", desc := "()V" } : Jvm.MethodName)) ∈ lw_all := lw_g (lw_at lw_m11 100 rfl) rfl
theorem q2764 : (Jvm.Cond.privateMethod ({ cls := "OpcodeForgeModel", name := "doFirst", desc := "()V" } : Jvm.MethodName)) ∈ lw_tbl := lw_at lw_m11 101 rfl
theorem q2765 : (Jvm.Cond.instanceMethod ({ cls := "OpcodeForgeModel", name := "doFirst", desc := "()V" } : Jvm.MethodName)) ∈ lw_all := lw_g (lw_at lw_m11 102 rfl) rfl
theorem q2766 : (Jvm.Cond.code ({ cls := "OpcodeForgeModel", name := "doFirst", desc := "()V" } : Jvm.MethodName) prog_12_method_146_code (4 : Nat) (Option.none : Option Jvm.ClassFile.FieldType)) ∈ lw_all := lw_g (lw_at lw_m11 103 rfl) rfl
theorem q2767 : (Jvm.Cond.methodLink "OpcodeForgeModel" (968 : Nat) ({ cls := "OpcodeForgeModel", name := "doNear", desc := "(I)V" } : Jvm.MethodName)) ∈ lw_all := lw_g (lw_at lw_m11 104 rfl) rfl
theorem q2768 : (Jvm.Cond.privateMethod ({ cls := "OpcodeForgeModel", name := "doNear", desc := "(I)V" } : Jvm.MethodName)) ∈ lw_tbl := lw_at lw_m11 105 rfl
theorem q2769 : (Jvm.Cond.instanceMethod ({ cls := "OpcodeForgeModel", name := "doNear", desc := "(I)V" } : Jvm.MethodName)) ∈ lw_all := lw_g (lw_at lw_m11 106 rfl) rfl
theorem q2770 : (Jvm.Cond.code ({ cls := "OpcodeForgeModel", name := "doNear", desc := "(I)V" } : Jvm.MethodName) prog_12_method_148_code (3 : Nat) (Option.none : Option Jvm.ClassFile.FieldType)) ∈ lw_all := lw_g (lw_at lw_m11 107 rfl) rfl
theorem q2771 : (Jvm.Cond.methodLink "OpcodeForgeModel" (990 : Nat) ({ cls := "OpcodeForgeModel", name := "exchange", desc := "(I)V" } : Jvm.MethodName)) ∈ lw_all := lw_g (lw_at lw_m11 108 rfl) rfl
theorem q2772 : (Jvm.Cond.privateMethod ({ cls := "OpcodeForgeModel", name := "exchange", desc := "(I)V" } : Jvm.MethodName)) ∈ lw_tbl := lw_at lw_m11 109 rfl
theorem q2773 : (Jvm.Cond.instanceMethod ({ cls := "OpcodeForgeModel", name := "exchange", desc := "(I)V" } : Jvm.MethodName)) ∈ lw_all := lw_g (lw_at lw_m11 110 rfl) rfl
theorem q2774 : (Jvm.Cond.code ({ cls := "OpcodeForgeModel", name := "exchange", desc := "(I)V" } : Jvm.MethodName) prog_12_method_147_code (3 : Nat) (Option.none : Option Jvm.ClassFile.FieldType)) ∈ lw_all := lw_g (lw_at lw_m11 111 rfl) rfl
theorem q2775 : (Jvm.Cond.methodLink "OpcodeForgeModel" (993 : Nat) ({ cls := "OpcodeForgeModel", name := "holds", desc := "(I)Z" } : Jvm.MethodName)) ∈ lw_all := lw_g (lw_at lw_m11 112 rfl) rfl
theorem q2776 : (Jvm.Cond.privateMethod ({ cls := "OpcodeForgeModel", name := "holds", desc := "(I)Z" } : Jvm.MethodName)) ∈ lw_tbl := lw_at lw_m11 113 rfl
theorem q2777 : (Jvm.Cond.instanceMethod ({ cls := "OpcodeForgeModel", name := "holds", desc := "(I)Z" } : Jvm.MethodName)) ∈ lw_all := lw_g (lw_at lw_m11 114 rfl) rfl
theorem q2778 : (Jvm.Cond.code ({ cls := "OpcodeForgeModel", name := "holds", desc := "(I)Z" } : Jvm.MethodName) prog_12_method_141_code (3 : Nat) (Option.some Jvm.ClassFile.FieldType.boolean)) ∈ lw_all := lw_g (lw_at lw_m11 115 rfl) rfl
theorem q2779 : (Jvm.Cond.methodLink "OpcodeForgeModel" (974 : Nat) ({ cls := "OpcodeForgeModel", name := "addPair", desc := "(I)V" } : Jvm.MethodName)) ∈ lw_all := lw_g (lw_at lw_m11 116 rfl) rfl
theorem q2780 : (Jvm.Cond.privateMethod ({ cls := "OpcodeForgeModel", name := "addPair", desc := "(I)V" } : Jvm.MethodName)) ∈ lw_tbl := lw_at lw_m11 117 rfl
theorem q2781 : (Jvm.Cond.instanceMethod ({ cls := "OpcodeForgeModel", name := "addPair", desc := "(I)V" } : Jvm.MethodName)) ∈ lw_all := lw_g (lw_at lw_m11 118 rfl) rfl
theorem q2782 : (Jvm.Cond.code ({ cls := "OpcodeForgeModel", name := "addPair", desc := "(I)V" } : Jvm.MethodName) prog_12_method_149_code (4 : Nat) (Option.none : Option Jvm.ClassFile.FieldType)) ∈ lw_all := lw_g (lw_at lw_m11 119 rfl) rfl
theorem q2783 : (Jvm.Cond.methodLink "OpcodeForgeModel" (980 : Nat) ({ cls := "OpcodeForgeModel", name := "doLoad", desc := "(I)V" } : Jvm.MethodName)) ∈ lw_all := lw_g (lw_at lw_m11 120 rfl) rfl
theorem q2784 : (Jvm.Cond.privateMethod ({ cls := "OpcodeForgeModel", name := "doLoad", desc := "(I)V" } : Jvm.MethodName)) ∈ lw_tbl := lw_at lw_m11 121 rfl
theorem q2785 : (Jvm.Cond.instanceMethod ({ cls := "OpcodeForgeModel", name := "doLoad", desc := "(I)V" } : Jvm.MethodName)) ∈ lw_all := lw_g (lw_at lw_m11 122 rfl) rfl
theorem q2786 : (Jvm.Cond.code ({ cls := "OpcodeForgeModel", name := "doLoad", desc := "(I)V" } : Jvm.MethodName) prog_12_method_150_code (4 : Nat) (Option.none : Option Jvm.ClassFile.FieldType)) ∈ lw_all := lw_g (lw_at lw_m11 123 rfl) rfl
theorem q2787 : (Jvm.Cond.methodLink "OpcodeForgeModel" (983 : Nat) ({ cls := "OpcodeForgeModel", name := "stepUp", desc := "(IZ)I" } : Jvm.MethodName)) ∈ lw_all := lw_g (lw_at lw_m11 124 rfl) rfl
theorem q2788 : (Jvm.Cond.privateMethod ({ cls := "OpcodeForgeModel", name := "stepUp", desc := "(IZ)I" } : Jvm.MethodName)) ∈ lw_tbl := lw_at lw_m11 125 rfl
theorem q2789 : (Jvm.Cond.instanceMethod ({ cls := "OpcodeForgeModel", name := "stepUp", desc := "(IZ)I" } : Jvm.MethodName)) ∈ lw_all := lw_g (lw_at lw_m11 126 rfl) rfl
theorem q2790 : (Jvm.Cond.code ({ cls := "OpcodeForgeModel", name := "stepUp", desc := "(IZ)I" } : Jvm.MethodName) prog_12_method_132_code (5 : Nat) (Option.some Jvm.ClassFile.FieldType.int)) ∈ lw_all := lw_g (lw_at lw_m11 127 rfl) rfl
theorem q2791 : (Jvm.Cond.methodLink "OpcodeForgeModel" (914 : Nat) ({ cls := "OpcodeForgeModel", name := "sum", desc := "(III)I" } : Jvm.MethodName)) ∈ lw_all := lw_g (lw_at lw_m11 128 rfl) rfl
theorem q2792 : (Jvm.Cond.privateMethod ({ cls := "OpcodeForgeModel", name := "sum", desc := "(III)I" } : Jvm.MethodName)) ∈ lw_tbl := lw_at lw_m11 129 rfl
theorem q2793 : (Jvm.Cond.instanceMethod ({ cls := "OpcodeForgeModel", name := "sum", desc := "(III)I" } : Jvm.MethodName)) ∈ lw_all := lw_g (lw_at lw_m11 130 rfl) rfl
theorem q2794 : (Jvm.Cond.code ({ cls := "OpcodeForgeModel", name := "sum", desc := "(III)I" } : Jvm.MethodName) prog_12_method_129_code (6 : Nat) (Option.some Jvm.ClassFile.FieldType.int)) ∈ lw_all := lw_g (lw_at lw_m11 131 rfl) rfl
theorem q2795 : (Jvm.Cond.methodLink "OpcodeForgeModel" (987 : Nat) ({ cls := "OpcodeForgeModel", name := "doAlone", desc := "(I)V" } : Jvm.MethodName)) ∈ lw_all := lw_g (lw_at lw_m11 132 rfl) rfl
theorem q2796 : (Jvm.Cond.privateMethod ({ cls := "OpcodeForgeModel", name := "doAlone", desc := "(I)V" } : Jvm.MethodName)) ∈ lw_tbl := lw_at lw_m11 133 rfl
theorem q2797 : (Jvm.Cond.instanceMethod ({ cls := "OpcodeForgeModel", name := "doAlone", desc := "(I)V" } : Jvm.MethodName)) ∈ lw_all := lw_g (lw_at lw_m11 134 rfl) rfl
theorem q2798 : (Jvm.Cond.code ({ cls := "OpcodeForgeModel", name := "doAlone", desc := "(I)V" } : Jvm.MethodName) prog_12_method_151_code (4 : Nat) (Option.none : Option Jvm.ClassFile.FieldType)) ∈ lw_all := lw_g (lw_at lw_m11 135 rfl) rfl
theorem q2799 : (Jvm.Cond.methodLink "OpcodeForgeModel" (996 : Nat) ({ cls := "OpcodeForgeModel", name := "adjust", desc := "()V" } : Jvm.MethodName)) ∈ lw_all := lw_g (lw_at lw_m11 136 rfl) rfl
theorem q2800 : (Jvm.Cond.privateMethod ({ cls := "OpcodeForgeModel", name := "adjust", desc := "()V" } : Jvm.MethodName)) ∈ lw_tbl := lw_at lw_m11 137 rfl
theorem q2801 : (Jvm.Cond.instanceMethod ({ cls := "OpcodeForgeModel", name := "adjust", desc := "()V" } : Jvm.MethodName)) ∈ lw_all := lw_g (lw_at lw_m11 138 rfl) rfl
theorem q2802 : (Jvm.Cond.code ({ cls := "OpcodeForgeModel", name := "adjust", desc := "()V" } : Jvm.MethodName) prog_12_method_152_code (8 : Nat) (Option.none : Option Jvm.ClassFile.FieldType)) ∈ lw_all := lw_g (lw_at lw_m11 139 rfl) rfl
theorem q2803 : (Jvm.Cond.methodLink "OpcodeForgeModel" (957 : Nat) ({ cls := "OpcodeForgeModel", name := "reckon", desc := "(II)V" } : Jvm.MethodName)) ∈ lw_all := lw_g (lw_at lw_m11 140 rfl) rfl
theorem q2804 : (Jvm.Cond.privateMethod ({ cls := "OpcodeForgeModel", name := "reckon", desc := "(II)V" } : Jvm.MethodName)) ∈ lw_tbl := lw_at lw_m11 141 rfl
theorem q2805 : (Jvm.Cond.instanceMethod ({ cls := "OpcodeForgeModel", name := "reckon", desc := "(II)V" } : Jvm.MethodName)) ∈ lw_all := lw_g (lw_at lw_m11 142 rfl) rfl
theorem q2806 : (Jvm.Cond.code ({ cls := "OpcodeForgeModel", name := "reckon", desc := "(II)V" } : Jvm.MethodName) prog_12_method_131_code (4 : Nat) (Option.none : Option Jvm.ClassFile.FieldType)) ∈ lw_all := lw_g (lw_at lw_m11 143 rfl) rfl
theorem q2807 : (Jvm.Cond.methodLink "OpcodeForgeModel" (960 : Nat) ({ cls := "OpcodeForgeModel", name := "doLast", desc := "()V" } : Jvm.MethodName)) ∈ lw_all := lw_g (lw_at lw_m11 144 rfl) rfl
theorem q2808 : (Jvm.Cond.privateMethod ({ cls := "OpcodeForgeModel", name := "doLast", desc := "()V" } : Jvm.MethodName)) ∈ lw_tbl := lw_at lw_m11 145 rfl
theorem q2809 : (Jvm.Cond.instanceMethod ({ cls := "OpcodeForgeModel", name := "doLast", desc := "()V" } : Jvm.MethodName)) ∈ lw_all := lw_g (lw_at lw_m11 146 rfl) rfl
theorem q2810 : (Jvm.Cond.code ({ cls := "OpcodeForgeModel", name := "doLast", desc := "()V" } : Jvm.MethodName) prog_12_method_153_code (5 : Nat) (Option.none : Option Jvm.ClassFile.FieldType)) ∈ lw_all := lw_g (lw_at lw_m11 147 rfl) rfl
theorem q2811 : (Jvm.Cond.methodLink "OpcodeForgeModel" (1002 : Nat) ({ cls := "OpcodeForgeModel", name := "doReturns", desc := "(IZ)V" } : Jvm.MethodName)) ∈ lw_all := lw_g (lw_at lw_m11 148 rfl) rfl
theorem q2812 : (Jvm.Cond.privateMethod ({ cls := "OpcodeForgeModel", name := "doReturns", desc := "(IZ)V" } : Jvm.MethodName)) ∈ lw_tbl := lw_at lw_m11 149 rfl
theorem q2813 : (Jvm.Cond.instanceMethod ({ cls := "OpcodeForgeModel", name := "doReturns", desc := "(IZ)V" } : Jvm.MethodName)) ∈ lw_all := lw_g (lw_at lw_m11 150 rfl) rfl
theorem q2814 : (Jvm.Cond.code ({ cls := "OpcodeForgeModel", name := "doReturns", desc := "(IZ)V" } : Jvm.MethodName) prog_12_method_154_code (4 : Nat) (Option.none : Option Jvm.ClassFile.FieldType)) ∈ lw_all := lw_g (lw_at lw_m11 151 rfl) rfl
theorem q2815 : (Jvm.Cond.methodLink "OpcodeForgeModel" (1005 : Nat) ({ cls := "OpcodeForgeModel", name := "doThird", desc := "(I)V" } : Jvm.MethodName)) ∈ lw_all := lw_g (lw_at lw_m11 152 rfl) rfl
theorem q2816 : (Jvm.Cond.privateMethod ({ cls := "OpcodeForgeModel", name := "doThird", desc := "(I)V" } : Jvm.MethodName)) ∈ lw_tbl := lw_at lw_m11 153 rfl
theorem q2817 : (Jvm.Cond.instanceMethod ({ cls := "OpcodeForgeModel", name := "doThird", desc := "(I)V" } : Jvm.MethodName)) ∈ lw_all := lw_g (lw_at lw_m11 154 rfl) rfl
theorem q2818 : (Jvm.Cond.code ({ cls := "OpcodeForgeModel", name := "doThird", desc := "(I)V" } : Jvm.MethodName) prog_12_method_155_code (5 : Nat) (Option.none : Option Jvm.ClassFile.FieldType)) ∈ lw_all := lw_g (lw_at lw_m11 155 rfl) rfl
theorem q2820 : (Jvm.Cond.instanceMethod ({ cls := "OpcodeForgeModel", name := "run", desc := "(I)I" } : Jvm.MethodName)) ∈ lw_all := lw_g (lw_at lw_m11 157 rfl) rfl
theorem q2821 : (Jvm.Cond.selects "OpcodeForgeModel" ({ cls := "OpcodeForgeModel", name := "run", desc := "(I)I" } : Jvm.MethodName) ({ cls := "OpcodeForgeModel", name := "run", desc := "(I)I" } : Jvm.MethodName)) ∈ lw_all := lw_g (lw_at lw_m11 158 rfl) rfl
theorem q2822 : (Jvm.Cond.code ({ cls := "OpcodeForgeModel", name := "run", desc := "(I)I" } : Jvm.MethodName) prog_12_method_144_code (4 : Nat) (Option.some Jvm.ClassFile.FieldType.int)) ∈ lw_all := lw_g (lw_at lw_m11 159 rfl) rfl
theorem q2823 : (Jvm.Cond.methodLink "OpcodeForgeModel" (963 : Nat) ({ cls := "OpcodeForgeModel", name := "step", desc := "()I" } : Jvm.MethodName)) ∈ lw_all := lw_g (lw_at lw_m11 160 rfl) rfl
theorem in_X8 : ∀ w ∈ wsX80, w ∈ lw_all := lw_in wsX80 [1857, 1859, 1861, 1863, 1865, 1867, 1869, 1871, 1873, 1875, 1877, 1879, 1881, 1883, 1885, 1887, 1889, 1891, 1893, 1895, 1897, 1899, 1901, 1903, 1905, 1907, 1909, 1911, 1913, 1915, 1917, 1919, 1921, 1923, 1925, 1927, 1929, 1931, 1933, 1935, 1937, 1939, 1941, 1943, 1945, 1947, 1949, 1951, 1953, 1955, 1957, 1959, 1961, 1963, 1965, 1967, 1969, 1971, 1973, 1975, 1977, 1979, 1981, 1983, 1985, 1987, 1989, 1991, 1993, 1995, 1997, 1999, 2001, 2003, 2005, 2007, 2009, 2011, 2013, 2015, 2017, 2019, 2021, 2023, 2025, 2027, 2029] (by decide +kernel) (by decide +kernel)
def RX9 : String := "OpcodeForge$Fault"
def TX9 : u_T := fun k => match k with
  | 0 => ("java/lang/Throwable", "cause", "Ljava/lang/Throwable;", false)
  | 1 => ("java/lang/Throwable", "stackTrace", "[Ljava/lang/StackTraceElement;", false)
  | 2 => ("java/lang/Throwable", "suppressedExceptions", "Ljava/util/List;", false)
  | 3 => ("java/lang/Throwable", "detailMessage", "Ljava/lang/String;", false)
  | 4 => ("java/lang/Throwable", "backtrace", "Ljava/lang/Object;", false)
  | 5 => ("java/lang/Throwable", "depth", "I", false)
  | 6 => ("OpcodeForge$Fault", "number", "I", true)
  | _ => ("OpcodeForge$Fault", "place", "I", true)
def tyX9 : Nat → FieldType := fun k => match k with
  | 0 => .object "java/lang/Throwable"
  | 1 => .array (.object "java/lang/StackTraceElement")
  | 2 => .object "java/util/List"
  | 3 => .object "java/lang/String"
  | 4 => .object "java/lang/Object"
  | 5 => .int
  | 6 => .int
  | _ => .int
abbrev wsX90 : List Cond := u_ws RX9 TX9 8
theorem nmX9 : ∀ a, a < 8 → ∀ b, b < 8 → a ≠ b → (TX9 a).2.1 ≠ (TX9 b).2.1 := by decide +kernel
theorem tyX9_ok : ∀ k, k < 8 → parseFieldDescriptor (TX9 k).2.2.1 = some (tyX9 k) := by decide +kernel
abbrev cX9_init : ByteArray := prog_3_method_1_code
def yX9_init : MethodName := ⟨RX9, "<init>", "(II)V"⟩
theorem q276 : (Jvm.Cond.initialized "OpcodeForge$Fault") ∈ lw_all := lw_g (lw_at lw_m1 13 rfl) rfl
theorem q877 : (Jvm.Cond.instantiable "OpcodeForge$Fault" (8 : Nat)) ∈ lw_all := lw_g (lw_at lw_m3 134 rfl) rfl
theorem q878 : (Jvm.Cond.castable "OpcodeForge$Fault" "OpcodeForge$Fault") ∈ lw_tbl := lw_at lw_m3 135 rfl
theorem q885 : (Jvm.Cond.selects "OpcodeForge$Fault" ({ cls := "java/lang/Throwable", name := "fillInStackTrace", desc := "(I)Ljava/lang/Throwable;" } : Jvm.MethodName) ({ cls := "java/lang/Throwable", name := "fillInStackTrace", desc := "(I)Ljava/lang/Throwable;" } : Jvm.MethodName)) ∈ lw_all := lw_g (lw_at lw_m3 142 rfl) rfl
theorem q886 : (Jvm.Cond.selects "OpcodeForge$Fault" ({ cls := "java/lang/Throwable", name := "fillInStackTrace", desc := "()Ljava/lang/Throwable;" } : Jvm.MethodName) ({ cls := "java/lang/Throwable", name := "fillInStackTrace", desc := "()Ljava/lang/Throwable;" } : Jvm.MethodName)) ∈ lw_all := lw_g (lw_at lw_m3 143 rfl) rfl
theorem q887 : (Jvm.Cond.lays "OpcodeForge$Fault" "java/lang/Throwable" "cause" "Ljava/lang/Throwable;") ∈ lw_all := lw_g (lw_at lw_m3 144 rfl) rfl
theorem q889 : (Jvm.Cond.lays "OpcodeForge$Fault" "java/lang/Throwable" "stackTrace" "[Ljava/lang/StackTraceElement;") ∈ lw_all := lw_g (lw_at lw_m3 146 rfl) rfl
theorem q891 : (Jvm.Cond.lays "OpcodeForge$Fault" "java/lang/Throwable" "suppressedExceptions" "Ljava/util/List;") ∈ lw_all := lw_g (lw_at lw_m3 148 rfl) rfl
theorem q893 : (Jvm.Cond.lays "OpcodeForge$Fault" "java/lang/Throwable" "detailMessage" "Ljava/lang/String;") ∈ lw_all := lw_g (lw_at lw_m3 150 rfl) rfl
theorem q895 : (Jvm.Cond.lays "OpcodeForge$Fault" "java/lang/Throwable" "backtrace" "Ljava/lang/Object;") ∈ lw_all := lw_g (lw_at lw_m3 152 rfl) rfl
theorem q916 : (Jvm.Cond.instanceMethod ({ cls := "OpcodeForge$Fault", name := "<init>", desc := "(II)V" } : Jvm.MethodName)) ∈ lw_all := lw_g (lw_at lw_m3 173 rfl) rfl
theorem q917 : (Jvm.Cond.code ({ cls := "OpcodeForge$Fault", name := "<init>", desc := "(II)V" } : Jvm.MethodName) prog_3_method_1_code (3 : Nat) (Option.none : Option Jvm.ClassFile.FieldType)) ∈ lw_all := lw_g (lw_at lw_m3 174 rfl) rfl
theorem q918 : (Jvm.Cond.methodLink "OpcodeForge$Fault" (1 : Nat) ({ cls := "java/lang/RuntimeException", name := "<init>", desc := "()V" } : Jvm.MethodName)) ∈ lw_all := lw_g (lw_at lw_m3 175 rfl) rfl
theorem q925 : (Jvm.Cond.fieldLink "OpcodeForge$Fault" (7 : Nat) "OpcodeForge$Fault" "number" "I") ∈ lw_all := lw_g (lw_at lw_m3 182 rfl) rfl
theorem q928 : (Jvm.Cond.fieldLink "OpcodeForge$Fault" (13 : Nat) "OpcodeForge$Fault" "place" "I") ∈ lw_all := lw_g (lw_at lw_m3 185 rfl) rfl
theorem q935 : (Jvm.Cond.laysFinal "OpcodeForge$Fault" "OpcodeForge$Fault" "number" "I") ∈ lw_all := lw_g (lw_at lw_m3 192 rfl) rfl
theorem q936 : (Jvm.Cond.soleField "OpcodeForge$Fault" "number") ∈ lw_all := lw_g (lw_at lw_m3 193 rfl) rfl
theorem q937 : (Jvm.Cond.laysFinal "OpcodeForge$Fault" "OpcodeForge$Fault" "place" "I") ∈ lw_all := lw_g (lw_at lw_m3 194 rfl) rfl
theorem q938 : (Jvm.Cond.soleField "OpcodeForge$Fault" "place") ∈ lw_all := lw_g (lw_at lw_m3 195 rfl) rfl
theorem q943 : (Jvm.Cond.lays "OpcodeForge$Fault" "java/lang/Throwable" "depth" "I") ∈ lw_all := lw_g (lw_at lw_m3 200 rfl) rfl
theorem q946 : (Jvm.Cond.superclass "OpcodeForge$Fault" "java/lang/RuntimeException") ∈ lw_all := lw_g (lw_at lw_m3 203 rfl) rfl
theorem in_X9 : ∀ w ∈ wsX90, w ∈ lw_all := lw_in wsX90 [887, 889, 891, 893, 895, 943, 935, 937] (by decide +kernel) (by decide +kernel)
abbrev cL_law : ByteArray := code
def RJ0 : String := "java/lang/Throwable"
def TJ0 : u_T := fun k => match k with
  | 0 => ("java/lang/Throwable", "cause", "Ljava/lang/Throwable;", false)
  | 1 => ("java/lang/Throwable", "stackTrace", "[Ljava/lang/StackTraceElement;", false)
  | 2 => ("java/lang/Throwable", "suppressedExceptions", "Ljava/util/List;", false)
  | 3 => ("java/lang/Throwable", "detailMessage", "Ljava/lang/String;", false)
  | _ => ("java/lang/Throwable", "backtrace", "Ljava/lang/Object;", false)
def tyJ0 : Nat → FieldType := fun k => match k with
  | 0 => .object "java/lang/Throwable"
  | 1 => .array (.object "java/lang/StackTraceElement")
  | 2 => .object "java/util/List"
  | 3 => .object "java/lang/String"
  | _ => .object "java/lang/Object"
abbrev wsJ00 : List Cond := u_ws RJ0 TJ0 5
theorem nmJ0 : ∀ a, a < 5 → ∀ b, b < 5 → a ≠ b → (TJ0 a).2.1 ≠ (TJ0 b).2.1 := by decide +kernel
theorem tyJ0_ok : ∀ k, k < 5 → parseFieldDescriptor (TJ0 k).2.2.1 = some (tyJ0 k) := by decide +kernel
abbrev cJ0_init : ByteArray := prog_21_method_1_code
def yJ0_init : MethodName := ⟨RJ0, "<init>", "()V"⟩
theorem q273 : (Jvm.Cond.initialized "java/lang/Throwable") ∈ lw_all := lw_g (lw_at lw_m1 10 rfl) rfl
theorem q883 : (Jvm.Cond.declares ({ cls := "java/lang/Throwable", name := "<init>", desc := "()V" } : Jvm.MethodName)) ∈ lw_tbl := lw_at lw_m3 140 rfl
theorem q884 : (Jvm.Cond.declares ({ cls := "java/lang/Throwable", name := "<init>", desc := "(Ljava/lang/String;)V" } : Jvm.MethodName)) ∈ lw_tbl := lw_at lw_m3 141 rfl
theorem q888 : (Jvm.Cond.lays "java/lang/Throwable" "java/lang/Throwable" "cause" "Ljava/lang/Throwable;") ∈ lw_all := lw_g (lw_at lw_m3 145 rfl) rfl
theorem q890 : (Jvm.Cond.lays "java/lang/Throwable" "java/lang/Throwable" "stackTrace" "[Ljava/lang/StackTraceElement;") ∈ lw_all := lw_g (lw_at lw_m3 147 rfl) rfl
theorem q892 : (Jvm.Cond.lays "java/lang/Throwable" "java/lang/Throwable" "suppressedExceptions" "Ljava/util/List;") ∈ lw_all := lw_g (lw_at lw_m3 149 rfl) rfl
theorem q894 : (Jvm.Cond.lays "java/lang/Throwable" "java/lang/Throwable" "detailMessage" "Ljava/lang/String;") ∈ lw_all := lw_g (lw_at lw_m3 151 rfl) rfl
theorem q896 : (Jvm.Cond.lays "java/lang/Throwable" "java/lang/Throwable" "backtrace" "Ljava/lang/Object;") ∈ lw_all := lw_g (lw_at lw_m3 153 rfl) rfl
theorem q897 : (Jvm.Cond.fieldLink "java/lang/Throwable" (198 : Nat) "java/lang/Throwable" "backtrace" "Ljava/lang/Object;") ∈ lw_all := lw_g (lw_at lw_m3 154 rfl) rfl
theorem q898 : (Jvm.Cond.superclass "java/lang/Throwable" "java/lang/Object") ∈ lw_all := lw_g (lw_at lw_m3 155 rfl) rfl
theorem q899 : (Jvm.Cond.instanceMethod ({ cls := "java/lang/Throwable", name := "<init>", desc := "()V" } : Jvm.MethodName)) ∈ lw_all := lw_g (lw_at lw_m3 156 rfl) rfl
theorem q900 : (Jvm.Cond.code ({ cls := "java/lang/Throwable", name := "<init>", desc := "()V" } : Jvm.MethodName) prog_21_method_1_code (1 : Nat) (Option.none : Option Jvm.ClassFile.FieldType)) ∈ lw_all := lw_g (lw_at lw_m3 157 rfl) rfl
theorem q901 : (Jvm.Cond.methodLink "java/lang/Throwable" (1 : Nat) ({ cls := "java/lang/Object", name := "<init>", desc := "()V" } : Jvm.MethodName)) ∈ lw_all := lw_g (lw_at lw_m3 158 rfl) rfl
theorem q902 : (Jvm.Cond.fieldLink "java/lang/Throwable" (13 : Nat) "java/lang/Throwable" "UNASSIGNED_STACK" "[Ljava/lang/StackTraceElement;") ∈ lw_all := lw_g (lw_at lw_m3 159 rfl) rfl
theorem q903 : (Jvm.Cond.laysStatic "java/lang/Throwable" "UNASSIGNED_STACK" "[Ljava/lang/StackTraceElement;") ∈ lw_tbl := lw_at lw_m3 160 rfl
theorem q904 : (Jvm.Cond.fieldLink "java/lang/Throwable" (20 : Nat) "java/lang/Throwable" "SUPPRESSED_SENTINEL" "Ljava/util/List;") ∈ lw_all := lw_g (lw_at lw_m3 161 rfl) rfl
theorem q905 : (Jvm.Cond.laysStatic "java/lang/Throwable" "SUPPRESSED_SENTINEL" "Ljava/util/List;") ∈ lw_tbl := lw_at lw_m3 162 rfl
theorem q906 : (Jvm.Cond.methodLink "java/lang/Throwable" (27 : Nat) ({ cls := "java/lang/Throwable", name := "fillInStackTrace", desc := "()Ljava/lang/Throwable;" } : Jvm.MethodName)) ∈ lw_all := lw_g (lw_at lw_m3 163 rfl) rfl
theorem q907 : (Jvm.Cond.instanceMethod ({ cls := "java/lang/Throwable", name := "fillInStackTrace", desc := "()Ljava/lang/Throwable;" } : Jvm.MethodName)) ∈ lw_all := lw_g (lw_at lw_m3 164 rfl) rfl
theorem q908 : (Jvm.Cond.sameMethod "java/lang/Throwable" "java/lang/Throwable" "fillInStackTrace" "()Ljava/lang/Throwable;") ∈ lw_all := lw_g (lw_at lw_m3 165 rfl) rfl
theorem q909 : (Jvm.Cond.codeSync ({ cls := "java/lang/Throwable", name := "fillInStackTrace", desc := "()Ljava/lang/Throwable;" } : Jvm.MethodName) prog_21_method_18_code (1 : Nat) (Option.some (Jvm.ClassFile.FieldType.object "java/lang/Throwable"))) ∈ lw_all := lw_g (lw_at lw_m3 166 rfl) rfl
theorem q910 : (Jvm.Cond.methodLink "java/lang/Throwable" (202 : Nat) ({ cls := "java/lang/Throwable", name := "fillInStackTrace", desc := "(I)Ljava/lang/Throwable;" } : Jvm.MethodName)) ∈ lw_all := lw_g (lw_at lw_m3 167 rfl) rfl
theorem q911 : (Jvm.Cond.privateMethod ({ cls := "java/lang/Throwable", name := "fillInStackTrace", desc := "(I)Ljava/lang/Throwable;" } : Jvm.MethodName)) ∈ lw_tbl := lw_at lw_m3 168 rfl
theorem q912 : (Jvm.Cond.instanceMethod ({ cls := "java/lang/Throwable", name := "fillInStackTrace", desc := "(I)Ljava/lang/Throwable;" } : Jvm.MethodName)) ∈ lw_all := lw_g (lw_at lw_m3 169 rfl) rfl
theorem q913 : (Jvm.Cond.instantiable "java/lang/Throwable" (6 : Nat)) ∈ lw_all := lw_g (lw_at lw_m3 170 rfl) rfl
theorem q914 : (Jvm.Cond.native ({ cls := "java/lang/Throwable", name := "fillInStackTrace", desc := "(I)Ljava/lang/Throwable;" } : Jvm.MethodName)) ∈ lw_all := lw_g (lw_at lw_m3 171 rfl) rfl
theorem q931 : (Jvm.Cond.fieldLink "java/lang/Throwable" (198 : Nat) "java/lang/Throwable" "backtrace" "Ljava/lang/Object;") ∈ lw_all := lw_g (lw_at lw_m3 188 rfl) rfl
theorem q932 : (Jvm.Cond.fieldLink "java/lang/Throwable" (7 : Nat) "java/lang/Throwable" "cause" "Ljava/lang/Throwable;") ∈ lw_all := lw_g (lw_at lw_m3 189 rfl) rfl
theorem q933 : (Jvm.Cond.fieldLink "java/lang/Throwable" (17 : Nat) "java/lang/Throwable" "stackTrace" "[Ljava/lang/StackTraceElement;") ∈ lw_all := lw_g (lw_at lw_m3 190 rfl) rfl
theorem q934 : (Jvm.Cond.fieldLink "java/lang/Throwable" (24 : Nat) "java/lang/Throwable" "suppressedExceptions" "Ljava/util/List;") ∈ lw_all := lw_g (lw_at lw_m3 191 rfl) rfl
theorem q939 : (Jvm.Cond.soleField "java/lang/Throwable" "backtrace") ∈ lw_all := lw_g (lw_at lw_m3 196 rfl) rfl
theorem q940 : (Jvm.Cond.soleField "java/lang/Throwable" "detailMessage") ∈ lw_all := lw_g (lw_at lw_m3 197 rfl) rfl
theorem q941 : (Jvm.Cond.soleField "java/lang/Throwable" "cause") ∈ lw_all := lw_g (lw_at lw_m3 198 rfl) rfl
theorem q942 : (Jvm.Cond.soleField "java/lang/Throwable" "stackTrace") ∈ lw_all := lw_g (lw_at lw_m3 199 rfl) rfl
theorem q944 : (Jvm.Cond.soleField "java/lang/Throwable" "depth") ∈ lw_all := lw_g (lw_at lw_m3 201 rfl) rfl
theorem q945 : (Jvm.Cond.soleField "java/lang/Throwable" "suppressedExceptions") ∈ lw_all := lw_g (lw_at lw_m3 202 rfl) rfl
theorem q2825 : (Jvm.Cond.sameMethod "java/lang/Throwable" "java/lang/Throwable" "fillInStackTrace" "(I)Ljava/lang/Throwable;") ∈ lw_all := lw_g (lw_at lw_m11 162 rfl) rfl
theorem in_J0 : ∀ w ∈ wsJ00, w ∈ lw_all := lw_in wsJ00 [888, 890, 892, 894, 896] (by decide +kernel) (by decide +kernel)
def RJ1 : String := "java/lang/Exception"
abbrev cJ1_init : ByteArray := prog_14_method_1_code
def yJ1_init : MethodName := ⟨RJ1, "<init>", "()V"⟩
theorem q274 : (Jvm.Cond.initialized "java/lang/Exception") ∈ lw_all := lw_g (lw_at lw_m1 11 rfl) rfl
theorem q881 : (Jvm.Cond.declares ({ cls := "java/lang/Exception", name := "<init>", desc := "()V" } : Jvm.MethodName)) ∈ lw_tbl := lw_at lw_m3 138 rfl
theorem q882 : (Jvm.Cond.declares ({ cls := "java/lang/Exception", name := "<init>", desc := "(Ljava/lang/String;)V" } : Jvm.MethodName)) ∈ lw_tbl := lw_at lw_m3 139 rfl
theorem q922 : (Jvm.Cond.instanceMethod ({ cls := "java/lang/Exception", name := "<init>", desc := "()V" } : Jvm.MethodName)) ∈ lw_all := lw_g (lw_at lw_m3 179 rfl) rfl
theorem q923 : (Jvm.Cond.code ({ cls := "java/lang/Exception", name := "<init>", desc := "()V" } : Jvm.MethodName) prog_14_method_1_code (1 : Nat) (Option.none : Option Jvm.ClassFile.FieldType)) ∈ lw_all := lw_g (lw_at lw_m3 180 rfl) rfl
theorem q924 : (Jvm.Cond.methodLink "java/lang/Exception" (1 : Nat) ({ cls := "java/lang/Throwable", name := "<init>", desc := "()V" } : Jvm.MethodName)) ∈ lw_all := lw_g (lw_at lw_m3 181 rfl) rfl
def RJ2 : String := "java/lang/RuntimeException"
abbrev cJ2_init : ByteArray := prog_16_method_1_code
def yJ2_init : MethodName := ⟨RJ2, "<init>", "()V"⟩
theorem q275 : (Jvm.Cond.initialized "java/lang/RuntimeException") ∈ lw_all := lw_g (lw_at lw_m1 12 rfl) rfl
theorem q879 : (Jvm.Cond.declares ({ cls := "java/lang/RuntimeException", name := "<init>", desc := "()V" } : Jvm.MethodName)) ∈ lw_tbl := lw_at lw_m3 136 rfl
theorem q880 : (Jvm.Cond.declares ({ cls := "java/lang/RuntimeException", name := "<init>", desc := "(Ljava/lang/String;)V" } : Jvm.MethodName)) ∈ lw_tbl := lw_at lw_m3 137 rfl
theorem q919 : (Jvm.Cond.instanceMethod ({ cls := "java/lang/RuntimeException", name := "<init>", desc := "()V" } : Jvm.MethodName)) ∈ lw_all := lw_g (lw_at lw_m3 176 rfl) rfl
theorem q920 : (Jvm.Cond.code ({ cls := "java/lang/RuntimeException", name := "<init>", desc := "()V" } : Jvm.MethodName) prog_16_method_1_code (1 : Nat) (Option.none : Option Jvm.ClassFile.FieldType)) ∈ lw_all := lw_g (lw_at lw_m3 177 rfl) rfl
theorem q921 : (Jvm.Cond.methodLink "java/lang/RuntimeException" (1 : Nat) ({ cls := "java/lang/Exception", name := "<init>", desc := "()V" } : Jvm.MethodName)) ∈ lw_all := lw_g (lw_at lw_m3 178 rfl) rfl
def RJ3 : String := "java/lang/Math"
abbrev cJ3_min : ByteArray := prog_15_method_70_code
def yJ3_min : MethodName := ⟨RJ3, "min", "(JJ)J"⟩
abbrev cJ3_max : ByteArray := prog_15_method_65_code
def yJ3_max : MethodName := ⟨RJ3, "max", "(II)I"⟩
abbrev cJ3_min_2 : ByteArray := prog_15_method_69_code
def yJ3_min_2 : MethodName := ⟨RJ3, "min", "(II)I"⟩
abbrev cJ3_abs : ByteArray := prog_15_method_59_code
def yJ3_abs : MethodName := ⟨RJ3, "abs", "(I)I"⟩
theorem q277 : (Jvm.Cond.initialized "java/lang/Math") ∈ lw_all := lw_g (lw_at lw_m1 14 rfl) rfl
theorem q993 : (Jvm.Cond.static ({ cls := "java/lang/Math", name := "min", desc := "(JJ)J" } : Jvm.MethodName)) ∈ lw_all := lw_g (lw_at lw_m4 10 rfl) rfl
theorem q994 : (Jvm.Cond.code ({ cls := "java/lang/Math", name := "min", desc := "(JJ)J" } : Jvm.MethodName) prog_15_method_70_code (4 : Nat) (Option.some Jvm.ClassFile.FieldType.long)) ∈ lw_all := lw_g (lw_at lw_m4 11 rfl) rfl
theorem q1041 : (Jvm.Cond.static ({ cls := "java/lang/Math", name := "max", desc := "(II)I" } : Jvm.MethodName)) ∈ lw_all := lw_g (lw_at lw_m4 58 rfl) rfl
theorem q1042 : (Jvm.Cond.code ({ cls := "java/lang/Math", name := "max", desc := "(II)I" } : Jvm.MethodName) prog_15_method_65_code (2 : Nat) (Option.some Jvm.ClassFile.FieldType.int)) ∈ lw_all := lw_g (lw_at lw_m4 59 rfl) rfl
theorem q1044 : (Jvm.Cond.static ({ cls := "java/lang/Math", name := "min", desc := "(II)I" } : Jvm.MethodName)) ∈ lw_all := lw_g (lw_at lw_m4 61 rfl) rfl
theorem q1045 : (Jvm.Cond.code ({ cls := "java/lang/Math", name := "min", desc := "(II)I" } : Jvm.MethodName) prog_15_method_69_code (2 : Nat) (Option.some Jvm.ClassFile.FieldType.int)) ∈ lw_all := lw_g (lw_at lw_m4 62 rfl) rfl
theorem q1459 : (Jvm.Cond.static ({ cls := "java/lang/Math", name := "abs", desc := "(I)I" } : Jvm.MethodName)) ∈ lw_all := lw_g (lw_at lw_m5 236 rfl) rfl
theorem q1460 : (Jvm.Cond.code ({ cls := "java/lang/Math", name := "abs", desc := "(I)I" } : Jvm.MethodName) prog_15_method_59_code (1 : Nat) (Option.some Jvm.ClassFile.FieldType.int)) ∈ lw_all := lw_g (lw_at lw_m5 237 rfl) rfl
def RJ4 : String := "java/lang/String"
abbrev cJ4_indexOf : ByteArray := prog_17_method_79_code
def yJ4_indexOf : MethodName := ⟨RJ4, "indexOf", "(I)I"⟩
abbrev cJ4_indexOf_2 : ByteArray := prog_17_method_80_code
def yJ4_indexOf_2 : MethodName := ⟨RJ4, "indexOf", "(II)I"⟩
abbrev cJ4_isLatin1 : ByteArray := prog_17_method_154_code
def yJ4_isLatin1 : MethodName := ⟨RJ4, "isLatin1", "()Z"⟩
abbrev cJ4_length : ByteArray := prog_17_method_54_code
def yJ4_length : MethodName := ⟨RJ4, "length", "()I"⟩
abbrev cJ4_coder : ByteArray := prog_17_method_152_code
def yJ4_coder : MethodName := ⟨RJ4, "coder", "()B"⟩
abbrev cJ4_checkBoundsBeginEnd : ByteArray := prog_17_method_158_code
def yJ4_checkBoundsBeginEnd : MethodName := ⟨RJ4, "checkBoundsBeginEnd", "(III)V"⟩
abbrev cJ4_charAt : ByteArray := prog_17_method_56_code
def yJ4_charAt : MethodName := ⟨RJ4, "charAt", "(I)C"⟩
abbrev cJ4_checkIndex : ByteArray := prog_17_method_155_code
def yJ4_checkIndex : MethodName := ⟨RJ4, "checkIndex", "(II)V"⟩
theorem q278 : (Jvm.Cond.initialized "java/lang/String") ∈ lw_all := lw_g (lw_at lw_m1 15 rfl) rfl
theorem q1013 : (Jvm.Cond.instanceMethod ({ cls := "java/lang/String", name := "indexOf", desc := "(I)I" } : Jvm.MethodName)) ∈ lw_all := lw_g (lw_at lw_m4 30 rfl) rfl
theorem q1014 : (Jvm.Cond.selects "java/lang/String" ({ cls := "java/lang/String", name := "indexOf", desc := "(I)I" } : Jvm.MethodName) ({ cls := "java/lang/String", name := "indexOf", desc := "(I)I" } : Jvm.MethodName)) ∈ lw_all := lw_g (lw_at lw_m4 31 rfl) rfl
theorem q1015 : (Jvm.Cond.code ({ cls := "java/lang/String", name := "indexOf", desc := "(I)I" } : Jvm.MethodName) prog_17_method_79_code (2 : Nat) (Option.some Jvm.ClassFile.FieldType.int)) ∈ lw_all := lw_g (lw_at lw_m4 32 rfl) rfl
theorem q1016 : (Jvm.Cond.methodLink "java/lang/String" (633 : Nat) ({ cls := "java/lang/String", name := "indexOf", desc := "(II)I" } : Jvm.MethodName)) ∈ lw_all := lw_g (lw_at lw_m4 33 rfl) rfl
theorem q1017 : (Jvm.Cond.instanceMethod ({ cls := "java/lang/String", name := "indexOf", desc := "(II)I" } : Jvm.MethodName)) ∈ lw_all := lw_g (lw_at lw_m4 34 rfl) rfl
theorem q1018 : (Jvm.Cond.selects "java/lang/String" ({ cls := "java/lang/String", name := "indexOf", desc := "(II)I" } : Jvm.MethodName) ({ cls := "java/lang/String", name := "indexOf", desc := "(II)I" } : Jvm.MethodName)) ∈ lw_all := lw_g (lw_at lw_m4 35 rfl) rfl
theorem q1019 : (Jvm.Cond.code ({ cls := "java/lang/String", name := "indexOf", desc := "(II)I" } : Jvm.MethodName) prog_17_method_80_code (3 : Nat) (Option.some Jvm.ClassFile.FieldType.int)) ∈ lw_all := lw_g (lw_at lw_m4 36 rfl) rfl
theorem q1020 : (Jvm.Cond.methodLink "java/lang/String" (492 : Nat) ({ cls := "java/lang/String", name := "isLatin1", desc := "()Z" } : Jvm.MethodName)) ∈ lw_all := lw_g (lw_at lw_m4 37 rfl) rfl
theorem q1021 : (Jvm.Cond.instanceMethod ({ cls := "java/lang/String", name := "isLatin1", desc := "()Z" } : Jvm.MethodName)) ∈ lw_all := lw_g (lw_at lw_m4 38 rfl) rfl
theorem q1022 : (Jvm.Cond.selects "java/lang/String" ({ cls := "java/lang/String", name := "isLatin1", desc := "()Z" } : Jvm.MethodName) ({ cls := "java/lang/String", name := "isLatin1", desc := "()Z" } : Jvm.MethodName)) ∈ lw_all := lw_g (lw_at lw_m4 39 rfl) rfl
theorem q1023 : (Jvm.Cond.code ({ cls := "java/lang/String", name := "isLatin1", desc := "()Z" } : Jvm.MethodName) prog_17_method_154_code (1 : Nat) (Option.some Jvm.ClassFile.FieldType.boolean)) ∈ lw_all := lw_g (lw_at lw_m4 40 rfl) rfl
theorem q1024 : (Jvm.Cond.fieldLink "java/lang/String" (38 : Nat) "java/lang/String" "COMPACT_STRINGS" "Z") ∈ lw_all := lw_g (lw_at lw_m4 41 rfl) rfl
theorem q1025 : (Jvm.Cond.laysStatic "java/lang/String" "COMPACT_STRINGS" "Z") ∈ lw_tbl := lw_at lw_m4 42 rfl
theorem q1026 : (Jvm.Cond.methodLink "java/lang/String" (505 : Nat) ({ cls := "java/lang/String", name := "length", desc := "()I" } : Jvm.MethodName)) ∈ lw_all := lw_g (lw_at lw_m4 43 rfl) rfl
theorem q1027 : (Jvm.Cond.instanceMethod ({ cls := "java/lang/String", name := "length", desc := "()I" } : Jvm.MethodName)) ∈ lw_all := lw_g (lw_at lw_m4 44 rfl) rfl
theorem q1028 : (Jvm.Cond.selects "java/lang/String" ({ cls := "java/lang/String", name := "length", desc := "()I" } : Jvm.MethodName) ({ cls := "java/lang/String", name := "length", desc := "()I" } : Jvm.MethodName)) ∈ lw_all := lw_g (lw_at lw_m4 45 rfl) rfl
theorem q1029 : (Jvm.Cond.code ({ cls := "java/lang/String", name := "length", desc := "()I" } : Jvm.MethodName) prog_17_method_54_code (1 : Nat) (Option.some Jvm.ClassFile.FieldType.int)) ∈ lw_all := lw_g (lw_at lw_m4 46 rfl) rfl
theorem q1030 : (Jvm.Cond.methodLink "java/lang/String" (335 : Nat) ({ cls := "java/lang/String", name := "coder", desc := "()B" } : Jvm.MethodName)) ∈ lw_all := lw_g (lw_at lw_m4 47 rfl) rfl
theorem q1031 : (Jvm.Cond.instanceMethod ({ cls := "java/lang/String", name := "coder", desc := "()B" } : Jvm.MethodName)) ∈ lw_all := lw_g (lw_at lw_m4 48 rfl) rfl
theorem q1032 : (Jvm.Cond.selects "java/lang/String" ({ cls := "java/lang/String", name := "coder", desc := "()B" } : Jvm.MethodName) ({ cls := "java/lang/String", name := "coder", desc := "()B" } : Jvm.MethodName)) ∈ lw_all := lw_g (lw_at lw_m4 49 rfl) rfl
theorem q1033 : (Jvm.Cond.code ({ cls := "java/lang/String", name := "coder", desc := "()B" } : Jvm.MethodName) prog_17_method_152_code (1 : Nat) (Option.some Jvm.ClassFile.FieldType.byte)) ∈ lw_all := lw_g (lw_at lw_m4 50 rfl) rfl
theorem q1034 : (Jvm.Cond.methodLink "java/lang/String" (637 : Nat) ({ cls := "java/lang/StringLatin1", name := "indexOf", desc := "([BIII)I" } : Jvm.MethodName)) ∈ lw_all := lw_g (lw_at lw_m4 51 rfl) rfl
theorem q1049 : (Jvm.Cond.methodLink "java/lang/String" (640 : Nat) ({ cls := "java/lang/StringUTF16", name := "indexOf", desc := "([BIII)I" } : Jvm.MethodName)) ∈ lw_all := lw_g (lw_at lw_m4 66 rfl) rfl
theorem q1065 : (Jvm.Cond.static ({ cls := "java/lang/String", name := "checkBoundsBeginEnd", desc := "(III)V" } : Jvm.MethodName)) ∈ lw_all := lw_g (lw_at lw_m4 82 rfl) rfl
theorem q1066 : (Jvm.Cond.code ({ cls := "java/lang/String", name := "checkBoundsBeginEnd", desc := "(III)V" } : Jvm.MethodName) prog_17_method_158_code (3 : Nat) (Option.none : Option Jvm.ClassFile.FieldType)) ∈ lw_all := lw_g (lw_at lw_m4 83 rfl) rfl
theorem q1067 : (Jvm.Cond.fieldLink "java/lang/String" (1053 : Nat) "jdk/internal/util/Preconditions" "SIOOBE_FORMATTER" "Ljava/util/function/BiFunction;") ∈ lw_all := lw_g (lw_at lw_m4 84 rfl) rfl
theorem q1069 : (Jvm.Cond.methodLink "java/lang/String" (1062 : Nat) ({ cls := "jdk/internal/util/Preconditions", name := "checkFromToIndex", desc := "(IIILjava/util/function/BiFunction;)I" } : Jvm.MethodName)) ∈ lw_all := lw_g (lw_at lw_m4 86 rfl) rfl
theorem q1123 : (Jvm.Cond.instanceMethod ({ cls := "java/lang/String", name := "charAt", desc := "(I)C" } : Jvm.MethodName)) ∈ lw_all := lw_g (lw_at lw_m4 140 rfl) rfl
theorem q1124 : (Jvm.Cond.selects "java/lang/String" ({ cls := "java/lang/String", name := "charAt", desc := "(I)C" } : Jvm.MethodName) ({ cls := "java/lang/String", name := "charAt", desc := "(I)C" } : Jvm.MethodName)) ∈ lw_all := lw_g (lw_at lw_m4 141 rfl) rfl
theorem q1125 : (Jvm.Cond.code ({ cls := "java/lang/String", name := "charAt", desc := "(I)C" } : Jvm.MethodName) prog_17_method_56_code (2 : Nat) (Option.some Jvm.ClassFile.FieldType.char)) ∈ lw_all := lw_g (lw_at lw_m4 142 rfl) rfl
theorem q1126 : (Jvm.Cond.methodLink "java/lang/String" (495 : Nat) ({ cls := "java/lang/StringLatin1", name := "charAt", desc := "([BI)C" } : Jvm.MethodName)) ∈ lw_all := lw_g (lw_at lw_m4 143 rfl) rfl
theorem q1130 : (Jvm.Cond.static ({ cls := "java/lang/String", name := "checkIndex", desc := "(II)V" } : Jvm.MethodName)) ∈ lw_all := lw_g (lw_at lw_m4 147 rfl) rfl
theorem q1131 : (Jvm.Cond.code ({ cls := "java/lang/String", name := "checkIndex", desc := "(II)V" } : Jvm.MethodName) prog_17_method_155_code (2 : Nat) (Option.none : Option Jvm.ClassFile.FieldType)) ∈ lw_all := lw_g (lw_at lw_m4 148 rfl) rfl
theorem q1132 : (Jvm.Cond.methodLink "java/lang/String" (1059 : Nat) ({ cls := "jdk/internal/util/Preconditions", name := "checkIndex", desc := "(IILjava/util/function/BiFunction;)I" } : Jvm.MethodName)) ∈ lw_all := lw_g (lw_at lw_m4 149 rfl) rfl
theorem q1135 : (Jvm.Cond.methodLink "java/lang/String" (498 : Nat) ({ cls := "java/lang/StringUTF16", name := "charAt", desc := "([BI)C" } : Jvm.MethodName)) ∈ lw_all := lw_g (lw_at lw_m4 152 rfl) rfl
theorem q2826 : (Jvm.Cond.fieldLink "java/lang/String" (15 : Nat) "java/lang/String" "coder" "B") ∈ lw_all := lw_g (lw_at lw_m11 163 rfl) rfl
theorem q2827 : (Jvm.Cond.fieldLink "java/lang/String" (9 : Nat) "java/lang/String" "value" "[B") ∈ lw_all := lw_g (lw_at lw_m11 164 rfl) rfl
def RJ5 : String := "java/lang/StringLatin1"
abbrev cJ5_indexOf : ByteArray := prog_18_method_22_code
def yJ5_indexOf : MethodName := ⟨RJ5, "indexOf", "([BIII)I"⟩
abbrev cJ5_canEncode : ByteArray := prog_18_method_4_code
def yJ5_canEncode : MethodName := ⟨RJ5, "canEncode", "(I)Z"⟩
abbrev cJ5_indexOfChar : ByteArray := prog_18_method_23_code
def yJ5_indexOfChar : MethodName := ⟨RJ5, "indexOfChar", "([BIII)I"⟩
abbrev cJ5_charAt : ByteArray := prog_18_method_2_code
def yJ5_charAt : MethodName := ⟨RJ5, "charAt", "([BI)C"⟩
theorem q279 : (Jvm.Cond.initialized "java/lang/StringLatin1") ∈ lw_all := lw_g (lw_at lw_m1 16 rfl) rfl
theorem q1035 : (Jvm.Cond.static ({ cls := "java/lang/StringLatin1", name := "indexOf", desc := "([BIII)I" } : Jvm.MethodName)) ∈ lw_all := lw_g (lw_at lw_m4 52 rfl) rfl
theorem q1036 : (Jvm.Cond.code ({ cls := "java/lang/StringLatin1", name := "indexOf", desc := "([BIII)I" } : Jvm.MethodName) prog_18_method_22_code (4 : Nat) (Option.some Jvm.ClassFile.FieldType.int)) ∈ lw_all := lw_g (lw_at lw_m4 53 rfl) rfl
theorem q1037 : (Jvm.Cond.methodLink "java/lang/StringLatin1" (88 : Nat) ({ cls := "java/lang/StringLatin1", name := "canEncode", desc := "(I)Z" } : Jvm.MethodName)) ∈ lw_all := lw_g (lw_at lw_m4 54 rfl) rfl
theorem q1038 : (Jvm.Cond.static ({ cls := "java/lang/StringLatin1", name := "canEncode", desc := "(I)Z" } : Jvm.MethodName)) ∈ lw_all := lw_g (lw_at lw_m4 55 rfl) rfl
theorem q1039 : (Jvm.Cond.code ({ cls := "java/lang/StringLatin1", name := "canEncode", desc := "(I)Z" } : Jvm.MethodName) prog_18_method_4_code (1 : Nat) (Option.some Jvm.ClassFile.FieldType.boolean)) ∈ lw_all := lw_g (lw_at lw_m4 56 rfl) rfl
theorem q1040 : (Jvm.Cond.methodLink "java/lang/StringLatin1" (92 : Nat) ({ cls := "java/lang/Math", name := "max", desc := "(II)I" } : Jvm.MethodName)) ∈ lw_all := lw_g (lw_at lw_m4 57 rfl) rfl
theorem q1043 : (Jvm.Cond.methodLink "java/lang/StringLatin1" (38 : Nat) ({ cls := "java/lang/Math", name := "min", desc := "(II)I" } : Jvm.MethodName)) ∈ lw_all := lw_g (lw_at lw_m4 60 rfl) rfl
theorem q1046 : (Jvm.Cond.methodLink "java/lang/StringLatin1" (95 : Nat) ({ cls := "java/lang/StringLatin1", name := "indexOfChar", desc := "([BIII)I" } : Jvm.MethodName)) ∈ lw_all := lw_g (lw_at lw_m4 63 rfl) rfl
theorem q1047 : (Jvm.Cond.static ({ cls := "java/lang/StringLatin1", name := "indexOfChar", desc := "([BIII)I" } : Jvm.MethodName)) ∈ lw_all := lw_g (lw_at lw_m4 64 rfl) rfl
theorem q1048 : (Jvm.Cond.code ({ cls := "java/lang/StringLatin1", name := "indexOfChar", desc := "([BIII)I" } : Jvm.MethodName) prog_18_method_23_code (6 : Nat) (Option.some Jvm.ClassFile.FieldType.int)) ∈ lw_all := lw_g (lw_at lw_m4 65 rfl) rfl
theorem q1127 : (Jvm.Cond.static ({ cls := "java/lang/StringLatin1", name := "charAt", desc := "([BI)C" } : Jvm.MethodName)) ∈ lw_all := lw_g (lw_at lw_m4 144 rfl) rfl
theorem q1128 : (Jvm.Cond.code ({ cls := "java/lang/StringLatin1", name := "charAt", desc := "([BI)C" } : Jvm.MethodName) prog_18_method_2_code (2 : Nat) (Option.some Jvm.ClassFile.FieldType.char)) ∈ lw_all := lw_g (lw_at lw_m4 145 rfl) rfl
theorem q1129 : (Jvm.Cond.methodLink "java/lang/StringLatin1" (9 : Nat) ({ cls := "java/lang/String", name := "checkIndex", desc := "(II)V" } : Jvm.MethodName)) ∈ lw_all := lw_g (lw_at lw_m4 146 rfl) rfl
def RJ6 : String := "java/lang/StringUTF16"
abbrev cJ6_indexOf : ByteArray := prog_19_method_40_code
def yJ6_indexOf : MethodName := ⟨RJ6, "indexOf", "([BIII)I"⟩
abbrev cJ6_indexOfChar : ByteArray := prog_19_method_47_code
def yJ6_indexOfChar : MethodName := ⟨RJ6, "indexOfChar", "([BIII)I"⟩
abbrev cJ6_checkBoundsBeginEnd : ByteArray := prog_19_method_93_code
def yJ6_checkBoundsBeginEnd : MethodName := ⟨RJ6, "checkBoundsBeginEnd", "(II[B)V"⟩
abbrev cJ6_length : ByteArray := prog_19_method_6_code
def yJ6_length : MethodName := ⟨RJ6, "length", "([B)I"⟩
abbrev cJ6_indexOfCharUnsafe : ByteArray := prog_19_method_48_code
def yJ6_indexOfCharUnsafe : MethodName := ⟨RJ6, "indexOfCharUnsafe", "([BIII)I"⟩
abbrev cJ6_getChar : ByteArray := prog_19_method_5_code
def yJ6_getChar : MethodName := ⟨RJ6, "getChar", "([BI)C"⟩
abbrev cJ6_indexOfSupplementary : ByteArray := prog_19_method_49_code
def yJ6_indexOfSupplementary : MethodName := ⟨RJ6, "indexOfSupplementary", "([BIII)I"⟩
abbrev cJ6_charAt : ByteArray := prog_19_method_83_code
def yJ6_charAt : MethodName := ⟨RJ6, "charAt", "([BI)C"⟩
abbrev cJ6_checkIndex : ByteArray := prog_19_method_91_code
def yJ6_checkIndex : MethodName := ⟨RJ6, "checkIndex", "(I[B)V"⟩
theorem q280 : (Jvm.Cond.initialized "java/lang/StringUTF16") ∈ lw_all := lw_g (lw_at lw_m1 17 rfl) rfl
theorem q1050 : (Jvm.Cond.static ({ cls := "java/lang/StringUTF16", name := "indexOf", desc := "([BIII)I" } : Jvm.MethodName)) ∈ lw_all := lw_g (lw_at lw_m4 67 rfl) rfl
theorem q1051 : (Jvm.Cond.code ({ cls := "java/lang/StringUTF16", name := "indexOf", desc := "([BIII)I" } : Jvm.MethodName) prog_19_method_40_code (4 : Nat) (Option.some Jvm.ClassFile.FieldType.int)) ∈ lw_all := lw_g (lw_at lw_m4 68 rfl) rfl
theorem q1052 : (Jvm.Cond.methodLink "java/lang/StringUTF16" (224 : Nat) ({ cls := "java/lang/Math", name := "max", desc := "(II)I" } : Jvm.MethodName)) ∈ lw_all := lw_g (lw_at lw_m4 69 rfl) rfl
theorem q1053 : (Jvm.Cond.methodLink "java/lang/StringUTF16" (183 : Nat) ({ cls := "java/lang/Math", name := "min", desc := "(II)I" } : Jvm.MethodName)) ∈ lw_all := lw_g (lw_at lw_m4 70 rfl) rfl
theorem q1054 : (Jvm.Cond.constant "java/lang/StringUTF16" (227 : Nat) (65536 : Int32)) ∈ lw_all := lw_g (lw_at lw_m4 71 rfl) rfl
theorem q1055 : (Jvm.Cond.methodLink "java/lang/StringUTF16" (228 : Nat) ({ cls := "java/lang/StringUTF16", name := "indexOfChar", desc := "([BIII)I" } : Jvm.MethodName)) ∈ lw_all := lw_g (lw_at lw_m4 72 rfl) rfl
theorem q1056 : (Jvm.Cond.static ({ cls := "java/lang/StringUTF16", name := "indexOfChar", desc := "([BIII)I" } : Jvm.MethodName)) ∈ lw_all := lw_g (lw_at lw_m4 73 rfl) rfl
theorem q1057 : (Jvm.Cond.code ({ cls := "java/lang/StringUTF16", name := "indexOfChar", desc := "([BIII)I" } : Jvm.MethodName) prog_19_method_47_code (4 : Nat) (Option.some Jvm.ClassFile.FieldType.int)) ∈ lw_all := lw_g (lw_at lw_m4 74 rfl) rfl
theorem q1058 : (Jvm.Cond.methodLink "java/lang/StringUTF16" (96 : Nat) ({ cls := "java/lang/StringUTF16", name := "checkBoundsBeginEnd", desc := "(II[B)V" } : Jvm.MethodName)) ∈ lw_all := lw_g (lw_at lw_m4 75 rfl) rfl
theorem q1059 : (Jvm.Cond.static ({ cls := "java/lang/StringUTF16", name := "checkBoundsBeginEnd", desc := "(II[B)V" } : Jvm.MethodName)) ∈ lw_all := lw_g (lw_at lw_m4 76 rfl) rfl
theorem q1060 : (Jvm.Cond.code ({ cls := "java/lang/StringUTF16", name := "checkBoundsBeginEnd", desc := "(II[B)V" } : Jvm.MethodName) prog_19_method_93_code (3 : Nat) (Option.none : Option Jvm.ClassFile.FieldType)) ∈ lw_all := lw_g (lw_at lw_m4 77 rfl) rfl
theorem q1061 : (Jvm.Cond.methodLink "java/lang/StringUTF16" (48 : Nat) ({ cls := "java/lang/StringUTF16", name := "length", desc := "([B)I" } : Jvm.MethodName)) ∈ lw_all := lw_g (lw_at lw_m4 78 rfl) rfl
theorem q1062 : (Jvm.Cond.static ({ cls := "java/lang/StringUTF16", name := "length", desc := "([B)I" } : Jvm.MethodName)) ∈ lw_all := lw_g (lw_at lw_m4 79 rfl) rfl
theorem q1063 : (Jvm.Cond.code ({ cls := "java/lang/StringUTF16", name := "length", desc := "([B)I" } : Jvm.MethodName) prog_19_method_6_code (1 : Nat) (Option.some Jvm.ClassFile.FieldType.int)) ∈ lw_all := lw_g (lw_at lw_m4 80 rfl) rfl
theorem q1064 : (Jvm.Cond.methodLink "java/lang/StringUTF16" (241 : Nat) ({ cls := "java/lang/String", name := "checkBoundsBeginEnd", desc := "(III)V" } : Jvm.MethodName)) ∈ lw_all := lw_g (lw_at lw_m4 81 rfl) rfl
theorem q1072 : (Jvm.Cond.methodLink "java/lang/StringUTF16" (244 : Nat) ({ cls := "java/lang/StringUTF16", name := "indexOfCharUnsafe", desc := "([BIII)I" } : Jvm.MethodName)) ∈ lw_all := lw_g (lw_at lw_m4 89 rfl) rfl
theorem q1073 : (Jvm.Cond.static ({ cls := "java/lang/StringUTF16", name := "indexOfCharUnsafe", desc := "([BIII)I" } : Jvm.MethodName)) ∈ lw_all := lw_g (lw_at lw_m4 90 rfl) rfl
theorem q1074 : (Jvm.Cond.code ({ cls := "java/lang/StringUTF16", name := "indexOfCharUnsafe", desc := "([BIII)I" } : Jvm.MethodName) prog_19_method_48_code (5 : Nat) (Option.some Jvm.ClassFile.FieldType.int)) ∈ lw_all := lw_g (lw_at lw_m4 91 rfl) rfl
theorem q1075 : (Jvm.Cond.methodLink "java/lang/StringUTF16" (71 : Nat) ({ cls := "java/lang/StringUTF16", name := "getChar", desc := "([BI)C" } : Jvm.MethodName)) ∈ lw_all := lw_g (lw_at lw_m4 92 rfl) rfl
theorem q1076 : (Jvm.Cond.static ({ cls := "java/lang/StringUTF16", name := "getChar", desc := "([BI)C" } : Jvm.MethodName)) ∈ lw_all := lw_g (lw_at lw_m4 93 rfl) rfl
theorem q1077 : (Jvm.Cond.code ({ cls := "java/lang/StringUTF16", name := "getChar", desc := "([BI)C" } : Jvm.MethodName) prog_19_method_5_code (2 : Nat) (Option.some Jvm.ClassFile.FieldType.char)) ∈ lw_all := lw_g (lw_at lw_m4 94 rfl) rfl
theorem q1078 : (Jvm.Cond.fieldLink "java/lang/StringUTF16" (44 : Nat) "java/lang/StringUTF16" "$assertionsDisabled" "Z") ∈ lw_all := lw_g (lw_at lw_m4 95 rfl) rfl
theorem q1079 : (Jvm.Cond.laysStatic "java/lang/StringUTF16" "$assertionsDisabled" "Z") ∈ lw_tbl := lw_at lw_m4 96 rfl
theorem q1080 : (Jvm.Cond.fieldLink "java/lang/StringUTF16" (59 : Nat) "java/lang/StringUTF16" "HI_BYTE_SHIFT" "I") ∈ lw_all := lw_g (lw_at lw_m4 97 rfl) rfl
theorem q1081 : (Jvm.Cond.laysStatic "java/lang/StringUTF16" "HI_BYTE_SHIFT" "I") ∈ lw_tbl := lw_at lw_m4 98 rfl
theorem q1082 : (Jvm.Cond.fieldLink "java/lang/StringUTF16" (63 : Nat) "java/lang/StringUTF16" "LO_BYTE_SHIFT" "I") ∈ lw_all := lw_g (lw_at lw_m4 99 rfl) rfl
theorem q1083 : (Jvm.Cond.laysStatic "java/lang/StringUTF16" "LO_BYTE_SHIFT" "I") ∈ lw_tbl := lw_at lw_m4 100 rfl
theorem q1084 : (Jvm.Cond.methodLink "java/lang/StringUTF16" (232 : Nat) ({ cls := "java/lang/StringUTF16", name := "indexOfSupplementary", desc := "([BIII)I" } : Jvm.MethodName)) ∈ lw_all := lw_g (lw_at lw_m4 101 rfl) rfl
theorem q1085 : (Jvm.Cond.static ({ cls := "java/lang/StringUTF16", name := "indexOfSupplementary", desc := "([BIII)I" } : Jvm.MethodName)) ∈ lw_all := lw_g (lw_at lw_m4 102 rfl) rfl
theorem q1086 : (Jvm.Cond.code ({ cls := "java/lang/StringUTF16", name := "indexOfSupplementary", desc := "([BIII)I" } : Jvm.MethodName) prog_19_method_49_code (7 : Nat) (Option.some Jvm.ClassFile.FieldType.int)) ∈ lw_all := lw_g (lw_at lw_m4 103 rfl) rfl
theorem q1087 : (Jvm.Cond.methodLink "java/lang/StringUTF16" (164 : Nat) ({ cls := "java/lang/Character", name := "isValidCodePoint", desc := "(I)Z" } : Jvm.MethodName)) ∈ lw_all := lw_g (lw_at lw_m4 104 rfl) rfl
theorem q1090 : (Jvm.Cond.methodLink "java/lang/StringUTF16" (157 : Nat) ({ cls := "java/lang/Character", name := "highSurrogate", desc := "(I)C" } : Jvm.MethodName)) ∈ lw_all := lw_g (lw_at lw_m4 107 rfl) rfl
theorem q1094 : (Jvm.Cond.methodLink "java/lang/StringUTF16" (161 : Nat) ({ cls := "java/lang/Character", name := "lowSurrogate", desc := "(I)C" } : Jvm.MethodName)) ∈ lw_all := lw_g (lw_at lw_m4 111 rfl) rfl
theorem q1136 : (Jvm.Cond.static ({ cls := "java/lang/StringUTF16", name := "charAt", desc := "([BI)C" } : Jvm.MethodName)) ∈ lw_all := lw_g (lw_at lw_m4 153 rfl) rfl
theorem q1137 : (Jvm.Cond.code ({ cls := "java/lang/StringUTF16", name := "charAt", desc := "([BI)C" } : Jvm.MethodName) prog_19_method_83_code (2 : Nat) (Option.some Jvm.ClassFile.FieldType.char)) ∈ lw_all := lw_g (lw_at lw_m4 154 rfl) rfl
theorem q1138 : (Jvm.Cond.methodLink "java/lang/StringUTF16" (67 : Nat) ({ cls := "java/lang/StringUTF16", name := "checkIndex", desc := "(I[B)V" } : Jvm.MethodName)) ∈ lw_all := lw_g (lw_at lw_m4 155 rfl) rfl
theorem q1139 : (Jvm.Cond.static ({ cls := "java/lang/StringUTF16", name := "checkIndex", desc := "(I[B)V" } : Jvm.MethodName)) ∈ lw_all := lw_g (lw_at lw_m4 156 rfl) rfl
theorem q1140 : (Jvm.Cond.code ({ cls := "java/lang/StringUTF16", name := "checkIndex", desc := "(I[B)V" } : Jvm.MethodName) prog_19_method_91_code (2 : Nat) (Option.none : Option Jvm.ClassFile.FieldType)) ∈ lw_all := lw_g (lw_at lw_m4 157 rfl) rfl
theorem q1141 : (Jvm.Cond.methodLink "java/lang/StringUTF16" (414 : Nat) ({ cls := "java/lang/String", name := "checkIndex", desc := "(II)V" } : Jvm.MethodName)) ∈ lw_all := lw_g (lw_at lw_m4 158 rfl) rfl
def RJ7 : String := "jdk/internal/util/Preconditions"
abbrev cJ7_checkFromToIndex : ByteArray := prog_22_method_12_code
def yJ7_checkFromToIndex : MethodName := ⟨RJ7, "checkFromToIndex", "(IIILjava/util/function/BiFunction;)I"⟩
abbrev cJ7_checkIndex : ByteArray := prog_22_method_11_code
def yJ7_checkIndex : MethodName := ⟨RJ7, "checkIndex", "(IILjava/util/function/BiFunction;)I"⟩
theorem q281 : (Jvm.Cond.initialized "jdk/internal/util/Preconditions") ∈ lw_all := lw_g (lw_at lw_m1 18 rfl) rfl
theorem q1068 : (Jvm.Cond.laysStatic "jdk/internal/util/Preconditions" "SIOOBE_FORMATTER" "Ljava/util/function/BiFunction;") ∈ lw_tbl := lw_at lw_m4 85 rfl
theorem q1070 : (Jvm.Cond.static ({ cls := "jdk/internal/util/Preconditions", name := "checkFromToIndex", desc := "(IIILjava/util/function/BiFunction;)I" } : Jvm.MethodName)) ∈ lw_all := lw_g (lw_at lw_m4 87 rfl) rfl
theorem q1071 : (Jvm.Cond.code ({ cls := "jdk/internal/util/Preconditions", name := "checkFromToIndex", desc := "(IIILjava/util/function/BiFunction;)I" } : Jvm.MethodName) prog_22_method_12_code (4 : Nat) (Option.some Jvm.ClassFile.FieldType.int)) ∈ lw_all := lw_g (lw_at lw_m4 88 rfl) rfl
theorem q1133 : (Jvm.Cond.static ({ cls := "jdk/internal/util/Preconditions", name := "checkIndex", desc := "(IILjava/util/function/BiFunction;)I" } : Jvm.MethodName)) ∈ lw_all := lw_g (lw_at lw_m4 150 rfl) rfl
theorem q1134 : (Jvm.Cond.code ({ cls := "jdk/internal/util/Preconditions", name := "checkIndex", desc := "(IILjava/util/function/BiFunction;)I" } : Jvm.MethodName) prog_22_method_11_code (3 : Nat) (Option.some Jvm.ClassFile.FieldType.int)) ∈ lw_all := lw_g (lw_at lw_m4 151 rfl) rfl
def RJ8 : String := "java/lang/Character"
abbrev cJ8_isValidCodePoint : ByteArray := prog_13_method_11_code
def yJ8_isValidCodePoint : MethodName := ⟨RJ8, "isValidCodePoint", "(I)Z"⟩
abbrev cJ8_highSurrogate : ByteArray := prog_13_method_28_code
def yJ8_highSurrogate : MethodName := ⟨RJ8, "highSurrogate", "(I)C"⟩
abbrev cJ8_lowSurrogate : ByteArray := prog_13_method_29_code
def yJ8_lowSurrogate : MethodName := ⟨RJ8, "lowSurrogate", "(I)C"⟩
theorem q282 : (Jvm.Cond.initialized "java/lang/Character") ∈ lw_all := lw_g (lw_at lw_m1 19 rfl) rfl
theorem q1088 : (Jvm.Cond.static ({ cls := "java/lang/Character", name := "isValidCodePoint", desc := "(I)Z" } : Jvm.MethodName)) ∈ lw_all := lw_g (lw_at lw_m4 105 rfl) rfl
theorem q1089 : (Jvm.Cond.code ({ cls := "java/lang/Character", name := "isValidCodePoint", desc := "(I)Z" } : Jvm.MethodName) prog_13_method_11_code (2 : Nat) (Option.some Jvm.ClassFile.FieldType.boolean)) ∈ lw_all := lw_g (lw_at lw_m4 106 rfl) rfl
theorem q1091 : (Jvm.Cond.static ({ cls := "java/lang/Character", name := "highSurrogate", desc := "(I)C" } : Jvm.MethodName)) ∈ lw_all := lw_g (lw_at lw_m4 108 rfl) rfl
theorem q1092 : (Jvm.Cond.code ({ cls := "java/lang/Character", name := "highSurrogate", desc := "(I)C" } : Jvm.MethodName) prog_13_method_28_code (1 : Nat) (Option.some Jvm.ClassFile.FieldType.char)) ∈ lw_all := lw_g (lw_at lw_m4 109 rfl) rfl
theorem q1093 : (Jvm.Cond.constant "java/lang/Character" (110 : Nat) (55232 : Int32)) ∈ lw_all := lw_g (lw_at lw_m4 110 rfl) rfl
theorem q1095 : (Jvm.Cond.static ({ cls := "java/lang/Character", name := "lowSurrogate", desc := "(I)C" } : Jvm.MethodName)) ∈ lw_all := lw_g (lw_at lw_m4 112 rfl) rfl
theorem q1096 : (Jvm.Cond.code ({ cls := "java/lang/Character", name := "lowSurrogate", desc := "(I)C" } : Jvm.MethodName) prog_13_method_29_code (1 : Nat) (Option.some Jvm.ClassFile.FieldType.char)) ∈ lw_all := lw_g (lw_at lw_m4 113 rfl) rfl
theorem q1097 : (Jvm.Cond.constant "java/lang/Character" (76 : Nat) (56320 : Int32)) ∈ lw_all := lw_g (lw_at lw_m4 114 rfl) rfl
def RJ9 : String := "java/lang/Object"
abbrev cJ9_init : ByteArray := object_method_1_code
def yJ9_init : MethodName := ⟨RJ9, "<init>", "()V"⟩
theorem q290 : (Jvm.Cond.instanceMethod ({ cls := "java/lang/Object", name := "<init>", desc := "()V" } : Jvm.MethodName)) ∈ lw_all := lw_g (lw_at lw_m1 27 rfl) rfl
theorem q291 : (Jvm.Cond.code ({ cls := "java/lang/Object", name := "<init>", desc := "()V" } : Jvm.MethodName) object_method_1_code (1 : Nat) (Option.none : Option Jvm.ClassFile.FieldType)) ∈ lw_all := lw_g (lw_at lw_m1 28 rfl) rfl
theorem q263 : (Jvm.Cond.initialized "OpcodeForgeLaw") ∈ lw_all := lw_g (lw_at lw_m1 0 rfl) rfl
theorem q284 : (Jvm.Cond.classLink "OpcodeForgeLaw" (7 : Nat) "OpcodeForge") ∈ lw_all := lw_g (lw_at lw_m1 21 rfl) rfl
theorem q286 : (Jvm.Cond.methodLink "OpcodeForgeLaw" (9 : Nat) ({ cls := "OpcodeForge", name := "<init>", desc := "()V" } : Jvm.MethodName)) ∈ lw_all := lw_g (lw_at lw_m1 23 rfl) rfl
theorem q851 : (Jvm.Cond.methodLink "OpcodeForgeLaw" (15 : Nat) ({ cls := "OpcodeForge", name := "feed", desc := "(JI)I" } : Jvm.MethodName)) ∈ lw_all := lw_g (lw_at lw_m3 108 rfl) rfl
theorem q859 : (Jvm.Cond.methodLink "OpcodeForgeLaw" (20 : Nat) ({ cls := "OpcodeForge", name := "forge", desc := "()I" } : Jvm.MethodName)) ∈ lw_all := lw_g (lw_at lw_m3 116 rfl) rfl
theorem q1391 : (Jvm.Cond.methodLink "OpcodeForgeLaw" (25 : Nat) ({ cls := "OpcodeForge", name := "told", desc := "(I)I" } : Jvm.MethodName)) ∈ lw_all := lw_g (lw_at lw_m5 168 rfl) rfl
theorem q1395 : (Jvm.Cond.methodLink "OpcodeForgeLaw" (30 : Nat) ({ cls := "OpcodeForge", name := "label", desc := "(I)I" } : Jvm.MethodName)) ∈ lw_all := lw_g (lw_at lw_m5 172 rfl) rfl
theorem q1399 : (Jvm.Cond.methodLink "OpcodeForgeLaw" (34 : Nat) ({ cls := "OpcodeForge", name := "labelSign", desc := "(II)I" } : Jvm.MethodName)) ∈ lw_all := lw_g (lw_at lw_m5 176 rfl) rfl
theorem q1403 : (Jvm.Cond.methodLink "OpcodeForgeLaw" (39 : Nat) ({ cls := "OpcodeForge", name := "write", desc := "(I)I" } : Jvm.MethodName)) ∈ lw_all := lw_g (lw_at lw_m5 180 rfl) rfl
theorem q1461 : (Jvm.Cond.methodLink "OpcodeForgeLaw" (43 : Nat) ({ cls := "OpcodeForge", name := "sign", desc := "(I)I" } : Jvm.MethodName)) ∈ lw_all := lw_g (lw_at lw_m5 238 rfl) rfl
theorem q1465 : (Jvm.Cond.methodLink "OpcodeForgeLaw" (47 : Nat) ({ cls := "OpcodeForge", name := "source", desc := "(II)I" } : Jvm.MethodName)) ∈ lw_all := lw_g (lw_at lw_m6 2 rfl) rfl
theorem q1478 : (Jvm.Cond.methodLink "OpcodeForgeLaw" (51 : Nat) ({ cls := "OpcodeForge", name := "sourceAt", desc := "(I)I" } : Jvm.MethodName)) ∈ lw_all := lw_g (lw_at lw_m6 15 rfl) rfl
theorem q1482 : (Jvm.Cond.methodLink "OpcodeForgeLaw" (55 : Nat) ({ cls := "OpcodeForge", name := "octet", desc := "(I)I" } : Jvm.MethodName)) ∈ lw_all := lw_g (lw_at lw_m6 19 rfl) rfl
theorem q1490 : (Jvm.Cond.methodLink "OpcodeForgeLaw" (59 : Nat) ({ cls := "OpcodeForge", name := "put", desc := "(II)I" } : Jvm.MethodName)) ∈ lw_all := lw_g (lw_at lw_m6 27 rfl) rfl
theorem q1499 : (Jvm.Cond.methodLink "OpcodeForgeLaw" (63 : Nat) ({ cls := "OpcodeForge", name := "register", desc := "(I)I" } : Jvm.MethodName)) ∈ lw_all := lw_g (lw_at lw_m6 36 rfl) rfl
theorem q1511 : (Jvm.Cond.methodLink "OpcodeForgeLaw" (67 : Nat) ({ cls := "OpcodeForge", name := "set", desc := "(II)I" } : Jvm.MethodName)) ∈ lw_all := lw_g (lw_at lw_m6 48 rfl) rfl
theorem q1530 : (Jvm.Cond.methodLink "OpcodeForgeLaw" (71 : Nat) ({ cls := "OpcodeForge", name := "port", desc := "(II)I" } : Jvm.MethodName)) ∈ lw_all := lw_g (lw_at lw_m6 67 rfl) rfl
theorem q1534 : (Jvm.Cond.methodLink "OpcodeForgeLaw" (75 : Nat) ({ cls := "OpcodeForge", name := "out", desc := "(I)I" } : Jvm.MethodName)) ∈ lw_all := lw_g (lw_at lw_m6 71 rfl) rfl
theorem q1538 : (Jvm.Cond.methodLink "OpcodeForgeLaw" (79 : Nat) ({ cls := "OpcodeForge", name := "request", desc := "(II)I" } : Jvm.MethodName)) ∈ lw_all := lw_g (lw_at lw_m6 75 rfl) rfl
theorem q1542 : (Jvm.Cond.methodLink "OpcodeForgeLaw" (83 : Nat) ({ cls := "OpcodeForge", name := "step", desc := "()I" } : Jvm.MethodName)) ∈ lw_all := lw_g (lw_at lw_m6 79 rfl) rfl
theorem q1746 : (Jvm.Cond.methodLink "OpcodeForgeLaw" (87 : Nat) ({ cls := "OpcodeForge", name := "run", desc := "(I)I" } : Jvm.MethodName)) ∈ lw_all := lw_g (lw_at lw_m7 43 rfl) rfl
theorem q1751 : (Jvm.Cond.methodLink "OpcodeForgeLaw" (91 : Nat) ({ cls := "OpcodeForge", name := "outs", desc := "()J" } : Jvm.MethodName)) ∈ lw_all := lw_g (lw_at lw_m7 48 rfl) rfl
theorem q1755 : (Jvm.Cond.methodLink "OpcodeForgeLaw" (96 : Nat) ({ cls := "OpcodeForge", name := "clear", desc := "()V" } : Jvm.MethodName)) ∈ lw_all := lw_g (lw_at lw_m7 52 rfl) rfl
theorem q1763 : (Jvm.Cond.classLink "OpcodeForgeLaw" (10 : Nat) "OpcodeForgeModel") ∈ lw_all := lw_g (lw_at lw_m7 60 rfl) rfl
theorem q1765 : (Jvm.Cond.methodLink "OpcodeForgeLaw" (12 : Nat) ({ cls := "OpcodeForgeModel", name := "<init>", desc := "()V" } : Jvm.MethodName)) ∈ lw_all := lw_g (lw_at lw_m7 62 rfl) rfl
theorem q2032 : (Jvm.Cond.methodLink "OpcodeForgeLaw" (19 : Nat) ({ cls := "OpcodeForgeModel", name := "feed", desc := "(JI)I" } : Jvm.MethodName)) ∈ lw_all := lw_g (lw_at lw_m8 89 rfl) rfl
theorem q2037 : (Jvm.Cond.methodLink "OpcodeForgeLaw" (54 : Nat) ({ cls := "OpcodeForgeModel", name := "sourceAt", desc := "(I)I" } : Jvm.MethodName)) ∈ lw_all := lw_g (lw_at lw_m8 94 rfl) rfl
theorem q2041 : (Jvm.Cond.methodLink "OpcodeForgeLaw" (24 : Nat) ({ cls := "OpcodeForgeModel", name := "forge", desc := "()I" } : Jvm.MethodName)) ∈ lw_all := lw_g (lw_at lw_m8 98 rfl) rfl
theorem q2428 : (Jvm.Cond.methodLink "OpcodeForgeLaw" (29 : Nat) ({ cls := "OpcodeForgeModel", name := "told", desc := "(I)I" } : Jvm.MethodName)) ∈ lw_all := lw_g (lw_at lw_m10 5 rfl) rfl
theorem q2432 : (Jvm.Cond.methodLink "OpcodeForgeLaw" (33 : Nat) ({ cls := "OpcodeForgeModel", name := "label", desc := "(I)I" } : Jvm.MethodName)) ∈ lw_all := lw_g (lw_at lw_m10 9 rfl) rfl
theorem q2436 : (Jvm.Cond.methodLink "OpcodeForgeLaw" (38 : Nat) ({ cls := "OpcodeForgeModel", name := "labelSign", desc := "(II)I" } : Jvm.MethodName)) ∈ lw_all := lw_g (lw_at lw_m10 13 rfl) rfl
theorem q2440 : (Jvm.Cond.methodLink "OpcodeForgeLaw" (42 : Nat) ({ cls := "OpcodeForgeModel", name := "write", desc := "(I)I" } : Jvm.MethodName)) ∈ lw_all := lw_g (lw_at lw_m10 17 rfl) rfl
theorem q2609 : (Jvm.Cond.methodLink "OpcodeForgeLaw" (46 : Nat) ({ cls := "OpcodeForgeModel", name := "sign", desc := "(I)I" } : Jvm.MethodName)) ∈ lw_all := lw_g (lw_at lw_m10 186 rfl) rfl
theorem q2613 : (Jvm.Cond.methodLink "OpcodeForgeLaw" (50 : Nat) ({ cls := "OpcodeForgeModel", name := "source", desc := "(II)I" } : Jvm.MethodName)) ∈ lw_all := lw_g (lw_at lw_m10 190 rfl) rfl
theorem q2618 : (Jvm.Cond.methodLink "OpcodeForgeLaw" (58 : Nat) ({ cls := "OpcodeForgeModel", name := "octet", desc := "(I)I" } : Jvm.MethodName)) ∈ lw_all := lw_g (lw_at lw_m10 195 rfl) rfl
theorem q2622 : (Jvm.Cond.methodLink "OpcodeForgeLaw" (62 : Nat) ({ cls := "OpcodeForgeModel", name := "put", desc := "(II)I" } : Jvm.MethodName)) ∈ lw_all := lw_g (lw_at lw_m10 199 rfl) rfl
theorem q2626 : (Jvm.Cond.methodLink "OpcodeForgeLaw" (99 : Nat) ({ cls := "OpcodeForgeModel", name := "clear", desc := "()V" } : Jvm.MethodName)) ∈ lw_all := lw_g (lw_at lw_m10 203 rfl) rfl
theorem q2630 : (Jvm.Cond.methodLink "OpcodeForgeLaw" (66 : Nat) ({ cls := "OpcodeForgeModel", name := "register", desc := "(I)I" } : Jvm.MethodName)) ∈ lw_all := lw_g (lw_at lw_m10 207 rfl) rfl
theorem q2642 : (Jvm.Cond.methodLink "OpcodeForgeLaw" (70 : Nat) ({ cls := "OpcodeForgeModel", name := "set", desc := "(II)I" } : Jvm.MethodName)) ∈ lw_all := lw_g (lw_at lw_m10 219 rfl) rfl
theorem q2650 : (Jvm.Cond.methodLink "OpcodeForgeLaw" (74 : Nat) ({ cls := "OpcodeForgeModel", name := "port", desc := "(II)I" } : Jvm.MethodName)) ∈ lw_all := lw_g (lw_at lw_m10 227 rfl) rfl
theorem q2654 : (Jvm.Cond.methodLink "OpcodeForgeLaw" (78 : Nat) ({ cls := "OpcodeForgeModel", name := "out", desc := "(I)I" } : Jvm.MethodName)) ∈ lw_all := lw_g (lw_at lw_m10 231 rfl) rfl
theorem q2658 : (Jvm.Cond.methodLink "OpcodeForgeLaw" (95 : Nat) ({ cls := "OpcodeForgeModel", name := "outs", desc := "()J" } : Jvm.MethodName)) ∈ lw_all := lw_g (lw_at lw_m10 235 rfl) rfl
theorem q2662 : (Jvm.Cond.methodLink "OpcodeForgeLaw" (82 : Nat) ({ cls := "OpcodeForgeModel", name := "request", desc := "(II)I" } : Jvm.MethodName)) ∈ lw_all := lw_g (lw_at lw_m10 239 rfl) rfl
theorem q2666 : (Jvm.Cond.methodLink "OpcodeForgeLaw" (86 : Nat) ({ cls := "OpcodeForgeModel", name := "step", desc := "()I" } : Jvm.MethodName)) ∈ lw_all := lw_g (lw_at lw_m11 3 rfl) rfl
theorem q2819 : (Jvm.Cond.methodLink "OpcodeForgeLaw" (90 : Nat) ({ cls := "OpcodeForgeModel", name := "run", desc := "(I)I" } : Jvm.MethodName)) ∈ lw_all := lw_g (lw_at lw_m11 156 rfl) rfl
theorem q2824 : (Jvm.Cond.constantLong "OpcodeForgeLaw" (13 : Nat) (4294967295 : Int64)) ∈ lw_all := lw_g (lw_at lw_m11 161 rfl) rfl
theorem q283 : (Jvm.Cond.initialized "java/lang/System") ∈ lw_all := lw_g (lw_at lw_m1 20 rfl) rfl
theorem q1155 : (Jvm.Cond.static ({ cls := "java/lang/System", name := "arraycopy", desc := "(Ljava/lang/Object;ILjava/lang/Object;II)V" } : Jvm.MethodName)) ∈ lw_all := lw_g (lw_at lw_m4 172 rfl) rfl
theorem q1156 : (Jvm.Cond.native ({ cls := "java/lang/System", name := "arraycopy", desc := "(Ljava/lang/Object;ILjava/lang/Object;II)V" } : Jvm.MethodName)) ∈ lw_all := lw_g (lw_at lw_m4 173 rfl) rfl
theorem q299 : (Jvm.Cond.arrayOver (Jvm.ClassFile.FieldType.object "java/lang/String")) ∈ lw_tbl := lw_at lw_m1 36 rfl
theorem q404 : (Jvm.Cond.arrayClass Jvm.ClassFile.FieldType.byte) ∈ lw_all := lw_g (lw_at lw_m1 141 rfl) rfl
theorem q523 : (Jvm.Cond.arrayClass Jvm.ClassFile.FieldType.int) ∈ lw_all := lw_g (lw_at lw_m2 20 rfl) rfl
theorem q699 : (Jvm.Cond.arrayClass Jvm.ClassFile.FieldType.boolean) ∈ lw_all := lw_g (lw_at lw_m2 196 rfl) rfl
