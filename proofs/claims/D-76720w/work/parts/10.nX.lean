/-! GathersAllFaults -/
set_option maxRecDepth 100000
def RX0 : String := "GathersAllFaults"
def TX0 : u_T := fun k => match k with
  | 0 => ("GathersAllFaults", "value0", "LGathersAllFaults$Value;", false)
  | 1 => ("GathersAllFaults", "check0", "LGathersAllFaults$Compiled;", false)
  | 2 => ("GathersAllFaults", "imagedValue", "LGathersAllFaults$Value;", false)
  | 3 => ("GathersAllFaults", "imagedCheck", "LGathersAllFaults$Compiled;", false)
  | 4 => ("GathersAllFaults", "hasImage", "Z", false)
  | 5 => ("GathersAllFaults", "row", "[B", true)
  | 6 => ("GathersAllFaults", "rowMany", "I", false)
  | 7 => ("GathersAllFaults", "letters", "[C", true)
  | 8 => ("GathersAllFaults", "letterMany", "I", false)
  | 9 => ("GathersAllFaults", "refused", "[I", true)
  | 10 => ("GathersAllFaults", "changing", "LGathersAllFaults$Num;", true)
  | 11 => ("GathersAllFaults", "nothing", "LGathersAllFaults$Nothing;", true)
  | 12 => ("GathersAllFaults", "lot", "I", false)
  | 13 => ("GathersAllFaults", "skip", "I", false)
  | 14 => ("GathersAllFaults", "hurtPaths", "[I", true)
  | 15 => ("GathersAllFaults", "hurtWas", "[LGathersAllFaults$Value;", true)
  | _ => ("GathersAllFaults", "hurtTo", "[LGathersAllFaults$Num;", true)
def tyX0 : Nat → FieldType := fun k => match k with
  | 0 => .object "GathersAllFaults$Value"
  | 1 => .object "GathersAllFaults$Compiled"
  | 2 => .object "GathersAllFaults$Value"
  | 3 => .object "GathersAllFaults$Compiled"
  | 4 => .boolean
  | 5 => .array .byte
  | 6 => .int
  | 7 => .array .char
  | 8 => .int
  | 9 => .array .int
  | 10 => .object "GathersAllFaults$Num"
  | 11 => .object "GathersAllFaults$Nothing"
  | 12 => .int
  | 13 => .int
  | 14 => .array .int
  | 15 => .array (.object "GathersAllFaults$Value")
  | _ => .array (.object "GathersAllFaults$Num")
abbrev wsX00 : List Cond := u_ws RX0 TX0 17
set_option maxRecDepth 100000 in
theorem nmX0 : ∀ a, a < 17 → ∀ b, b < 17 → a ≠ b → (TX0 a).2.1 ≠ (TX0 b).2.1 := by decide +kernel
set_option maxRecDepth 100000 in
theorem tyX0_ok : ∀ k, k < 17 → parseFieldDescriptor (TX0 k).2.2.1 = some (tyX0 k) := by decide +kernel
abbrev cX0_init : ByteArray := prog_1_method_17_code
def yX0_init : MethodName := ⟨RX0, "<init>", "()V"⟩
def dkwX0_init_5 : List UInt8 := [187, 0, 48, 89, 3, 183, 0, 65, 83, 89, 6, 187, 0, 48, 89, 3, 183, 0, 65, 83, 181, 0, 107, 177]
abbrev dktX0_init_5 : List UInt8 := dkwX0_init_5 ++ []
def dkwX0_init_4 : List UInt8 := [3, 187, 0, 48, 89, 3, 183, 0, 65, 83, 89, 4, 187, 0, 48, 89, 3, 183, 0, 65, 83, 89, 5]
abbrev dktX0_init_4 : List UInt8 := dkwX0_init_4 ++ dktX0_init_5
def dkwX0_init_3 : List UInt8 := [181, 0, 96, 42, 7, 188, 10, 181, 0, 100, 42, 7, 189, 0, 55, 181, 0, 103, 42, 7, 189, 0, 48, 89]
abbrev dktX0_init_3 : List UInt8 := dkwX0_init_3 ++ dktX0_init_4
def dkwX0_init_2 : List UInt8 := [181, 0, 85, 42, 187, 0, 48, 89, 3, 183, 0, 65, 181, 0, 89, 42, 187, 0, 93, 89, 183, 0, 95]
abbrev dktX0_init_2 : List UInt8 := dkwX0_init_2 ++ dktX0_init_3
def dkwX0_init_1 : List UInt8 := [181, 0, 73, 42, 16, 32, 188, 8, 181, 0, 77, 42, 16, 96, 188, 5, 181, 0, 81, 42, 16, 7, 188, 10]
abbrev dktX0_init_1 : List UInt8 := dkwX0_init_1 ++ dktX0_init_2
def dkwX0_init_0 : List UInt8 := [42, 183, 0, 60, 42, 187, 0, 48, 89, 3, 183, 0, 65, 181, 0, 66, 42, 187, 0, 70, 89, 183, 0, 72]
abbrev dktX0_init_0 : List UInt8 := dkwX0_init_0 ++ dktX0_init_1
theorem dksX0_init_0 : cX0_init.data.toList.drop 0 = dktX0_init_0 := by decide +kernel
theorem dksX0_init_1 : cX0_init.data.toList.drop 24 = dktX0_init_1 := dk_seg dksX0_init_0 24 rfl rfl
theorem dksX0_init_2 : cX0_init.data.toList.drop 48 = dktX0_init_2 := dk_seg dksX0_init_1 24 rfl rfl
theorem dksX0_init_3 : cX0_init.data.toList.drop 71 = dktX0_init_3 := dk_seg dksX0_init_2 23 rfl rfl
theorem dksX0_init_4 : cX0_init.data.toList.drop 95 = dktX0_init_4 := dk_seg dksX0_init_3 24 rfl rfl
theorem dksX0_init_5 : cX0_init.data.toList.drop 118 = dktX0_init_5 := dk_seg dksX0_init_4 23 rfl rfl
theorem dX0_init_0 : decode cX0_init 0 = .ok (.aload_n 0, 1) := dk_42 (dk_at dksX0_init_0 0 rfl rfl)
theorem dX0_init_1 : decode cX0_init 1 = .ok (.invokespecial 60, 3) := dk_183 0 60 (dk_at dksX0_init_0 1 rfl rfl)
theorem dX0_init_4 : decode cX0_init 4 = .ok (.aload_n 0, 1) := dk_42 (dk_at dksX0_init_0 4 rfl rfl)
theorem dX0_init_5 : decode cX0_init 5 = .ok (.new 48, 3) := dk_187 0 48 (dk_at dksX0_init_0 5 rfl rfl)
theorem dX0_init_8 : decode cX0_init 8 = .ok (.dup, 1) := dk_89 (dk_at dksX0_init_0 8 rfl rfl)
theorem dX0_init_9 : decode cX0_init 9 = .ok (.iconst 0, 1) := dk_3 (dk_at dksX0_init_0 9 rfl rfl)
theorem dX0_init_10 : decode cX0_init 10 = .ok (.invokespecial 65, 3) := dk_183 0 65 (dk_at dksX0_init_0 10 rfl rfl)
theorem dX0_init_13 : decode cX0_init 13 = .ok (.putfield 66, 3) := dk_181 0 66 (dk_at dksX0_init_0 13 rfl rfl)
theorem dX0_init_16 : decode cX0_init 16 = .ok (.aload_n 0, 1) := dk_42 (dk_at dksX0_init_0 16 rfl rfl)
theorem dX0_init_17 : decode cX0_init 17 = .ok (.new 70, 3) := dk_187 0 70 (dk_at dksX0_init_0 17 rfl rfl)
theorem dX0_init_20 : decode cX0_init 20 = .ok (.dup, 1) := dk_89 (dk_at dksX0_init_0 20 rfl rfl)
theorem dX0_init_21 : decode cX0_init 21 = .ok (.invokespecial 72, 3) := dk_183 0 72 (dk_at dksX0_init_0 21 rfl rfl)
theorem dX0_init_24 : decode cX0_init 24 = .ok (.putfield 73, 3) := dk_181 0 73 (dk_at dksX0_init_1 0 rfl rfl)
theorem dX0_init_27 : decode cX0_init 27 = .ok (.aload_n 0, 1) := dk_42 (dk_at dksX0_init_1 3 rfl rfl)
theorem dX0_init_28 : decode cX0_init 28 = .ok (.bipush 32, 2) := dk_16 32 (dk_at dksX0_init_1 4 rfl rfl)
theorem dX0_init_30 : decode cX0_init 30 = .ok (.newarray .byte, 2) := dk_188_8 (dk_at dksX0_init_1 6 rfl rfl)
theorem dX0_init_32 : decode cX0_init 32 = .ok (.putfield 77, 3) := dk_181 0 77 (dk_at dksX0_init_1 8 rfl rfl)
theorem dX0_init_35 : decode cX0_init 35 = .ok (.aload_n 0, 1) := dk_42 (dk_at dksX0_init_1 11 rfl rfl)
theorem dX0_init_36 : decode cX0_init 36 = .ok (.bipush 96, 2) := dk_16 96 (dk_at dksX0_init_1 12 rfl rfl)
theorem dX0_init_38 : decode cX0_init 38 = .ok (.newarray .char, 2) := dk_188_5 (dk_at dksX0_init_1 14 rfl rfl)
theorem dX0_init_40 : decode cX0_init 40 = .ok (.putfield 81, 3) := dk_181 0 81 (dk_at dksX0_init_1 16 rfl rfl)
theorem dX0_init_43 : decode cX0_init 43 = .ok (.aload_n 0, 1) := dk_42 (dk_at dksX0_init_1 19 rfl rfl)
theorem dX0_init_44 : decode cX0_init 44 = .ok (.bipush 7, 2) := dk_16 7 (dk_at dksX0_init_1 20 rfl rfl)
theorem dX0_init_46 : decode cX0_init 46 = .ok (.newarray .int, 2) := dk_188_10 (dk_at dksX0_init_1 22 rfl rfl)
theorem dX0_init_48 : decode cX0_init 48 = .ok (.putfield 85, 3) := dk_181 0 85 (dk_at dksX0_init_2 0 rfl rfl)
theorem dX0_init_51 : decode cX0_init 51 = .ok (.aload_n 0, 1) := dk_42 (dk_at dksX0_init_2 3 rfl rfl)
theorem dX0_init_52 : decode cX0_init 52 = .ok (.new 48, 3) := dk_187 0 48 (dk_at dksX0_init_2 4 rfl rfl)
theorem dX0_init_55 : decode cX0_init 55 = .ok (.dup, 1) := dk_89 (dk_at dksX0_init_2 7 rfl rfl)
theorem dX0_init_56 : decode cX0_init 56 = .ok (.iconst 0, 1) := dk_3 (dk_at dksX0_init_2 8 rfl rfl)
theorem dX0_init_57 : decode cX0_init 57 = .ok (.invokespecial 65, 3) := dk_183 0 65 (dk_at dksX0_init_2 9 rfl rfl)
theorem dX0_init_60 : decode cX0_init 60 = .ok (.putfield 89, 3) := dk_181 0 89 (dk_at dksX0_init_2 12 rfl rfl)
theorem dX0_init_63 : decode cX0_init 63 = .ok (.aload_n 0, 1) := dk_42 (dk_at dksX0_init_2 15 rfl rfl)
theorem dX0_init_64 : decode cX0_init 64 = .ok (.new 93, 3) := dk_187 0 93 (dk_at dksX0_init_2 16 rfl rfl)
theorem dX0_init_67 : decode cX0_init 67 = .ok (.dup, 1) := dk_89 (dk_at dksX0_init_2 19 rfl rfl)
theorem dX0_init_68 : decode cX0_init 68 = .ok (.invokespecial 95, 3) := dk_183 0 95 (dk_at dksX0_init_2 20 rfl rfl)
theorem dX0_init_71 : decode cX0_init 71 = .ok (.putfield 96, 3) := dk_181 0 96 (dk_at dksX0_init_3 0 rfl rfl)
theorem dX0_init_74 : decode cX0_init 74 = .ok (.aload_n 0, 1) := dk_42 (dk_at dksX0_init_3 3 rfl rfl)
theorem dX0_init_75 : decode cX0_init 75 = .ok (.iconst 4, 1) := dk_7 (dk_at dksX0_init_3 4 rfl rfl)
theorem dX0_init_76 : decode cX0_init 76 = .ok (.newarray .int, 2) := dk_188_10 (dk_at dksX0_init_3 5 rfl rfl)
theorem dX0_init_78 : decode cX0_init 78 = .ok (.putfield 100, 3) := dk_181 0 100 (dk_at dksX0_init_3 7 rfl rfl)
theorem dX0_init_81 : decode cX0_init 81 = .ok (.aload_n 0, 1) := dk_42 (dk_at dksX0_init_3 10 rfl rfl)
theorem dX0_init_82 : decode cX0_init 82 = .ok (.iconst 4, 1) := dk_7 (dk_at dksX0_init_3 11 rfl rfl)
theorem dX0_init_83 : decode cX0_init 83 = .ok (.anewarray 55, 3) := dk_189 0 55 (dk_at dksX0_init_3 12 rfl rfl)
theorem dX0_init_86 : decode cX0_init 86 = .ok (.putfield 103, 3) := dk_181 0 103 (dk_at dksX0_init_3 15 rfl rfl)
theorem dX0_init_89 : decode cX0_init 89 = .ok (.aload_n 0, 1) := dk_42 (dk_at dksX0_init_3 18 rfl rfl)
theorem dX0_init_90 : decode cX0_init 90 = .ok (.iconst 4, 1) := dk_7 (dk_at dksX0_init_3 19 rfl rfl)
theorem dX0_init_91 : decode cX0_init 91 = .ok (.anewarray 48, 3) := dk_189 0 48 (dk_at dksX0_init_3 20 rfl rfl)
theorem dX0_init_94 : decode cX0_init 94 = .ok (.dup, 1) := dk_89 (dk_at dksX0_init_3 23 rfl rfl)
theorem dX0_init_95 : decode cX0_init 95 = .ok (.iconst 0, 1) := dk_3 (dk_at dksX0_init_4 0 rfl rfl)
theorem dX0_init_96 : decode cX0_init 96 = .ok (.new 48, 3) := dk_187 0 48 (dk_at dksX0_init_4 1 rfl rfl)
theorem dX0_init_99 : decode cX0_init 99 = .ok (.dup, 1) := dk_89 (dk_at dksX0_init_4 4 rfl rfl)
theorem dX0_init_100 : decode cX0_init 100 = .ok (.iconst 0, 1) := dk_3 (dk_at dksX0_init_4 5 rfl rfl)
theorem dX0_init_101 : decode cX0_init 101 = .ok (.invokespecial 65, 3) := dk_183 0 65 (dk_at dksX0_init_4 6 rfl rfl)
theorem dX0_init_104 : decode cX0_init 104 = .ok (.aastore, 1) := dk_83 (dk_at dksX0_init_4 9 rfl rfl)
theorem dX0_init_105 : decode cX0_init 105 = .ok (.dup, 1) := dk_89 (dk_at dksX0_init_4 10 rfl rfl)
theorem dX0_init_106 : decode cX0_init 106 = .ok (.iconst 1, 1) := dk_4 (dk_at dksX0_init_4 11 rfl rfl)
theorem dX0_init_107 : decode cX0_init 107 = .ok (.new 48, 3) := dk_187 0 48 (dk_at dksX0_init_4 12 rfl rfl)
theorem dX0_init_110 : decode cX0_init 110 = .ok (.dup, 1) := dk_89 (dk_at dksX0_init_4 15 rfl rfl)
theorem dX0_init_111 : decode cX0_init 111 = .ok (.iconst 0, 1) := dk_3 (dk_at dksX0_init_4 16 rfl rfl)
theorem dX0_init_112 : decode cX0_init 112 = .ok (.invokespecial 65, 3) := dk_183 0 65 (dk_at dksX0_init_4 17 rfl rfl)
theorem dX0_init_115 : decode cX0_init 115 = .ok (.aastore, 1) := dk_83 (dk_at dksX0_init_4 20 rfl rfl)
theorem dX0_init_116 : decode cX0_init 116 = .ok (.dup, 1) := dk_89 (dk_at dksX0_init_4 21 rfl rfl)
theorem dX0_init_117 : decode cX0_init 117 = .ok (.iconst 2, 1) := dk_5 (dk_at dksX0_init_4 22 rfl rfl)
theorem dX0_init_118 : decode cX0_init 118 = .ok (.new 48, 3) := dk_187 0 48 (dk_at dksX0_init_5 0 rfl rfl)
theorem dX0_init_121 : decode cX0_init 121 = .ok (.dup, 1) := dk_89 (dk_at dksX0_init_5 3 rfl rfl)
theorem dX0_init_122 : decode cX0_init 122 = .ok (.iconst 0, 1) := dk_3 (dk_at dksX0_init_5 4 rfl rfl)
theorem dX0_init_123 : decode cX0_init 123 = .ok (.invokespecial 65, 3) := dk_183 0 65 (dk_at dksX0_init_5 5 rfl rfl)
theorem dX0_init_126 : decode cX0_init 126 = .ok (.aastore, 1) := dk_83 (dk_at dksX0_init_5 8 rfl rfl)
theorem dX0_init_127 : decode cX0_init 127 = .ok (.dup, 1) := dk_89 (dk_at dksX0_init_5 9 rfl rfl)
theorem dX0_init_128 : decode cX0_init 128 = .ok (.iconst 3, 1) := dk_6 (dk_at dksX0_init_5 10 rfl rfl)
theorem dX0_init_129 : decode cX0_init 129 = .ok (.new 48, 3) := dk_187 0 48 (dk_at dksX0_init_5 11 rfl rfl)
theorem dX0_init_132 : decode cX0_init 132 = .ok (.dup, 1) := dk_89 (dk_at dksX0_init_5 14 rfl rfl)
theorem dX0_init_133 : decode cX0_init 133 = .ok (.iconst 0, 1) := dk_3 (dk_at dksX0_init_5 15 rfl rfl)
theorem dX0_init_134 : decode cX0_init 134 = .ok (.invokespecial 65, 3) := dk_183 0 65 (dk_at dksX0_init_5 16 rfl rfl)
theorem dX0_init_137 : decode cX0_init 137 = .ok (.aastore, 1) := dk_83 (dk_at dksX0_init_5 19 rfl rfl)
theorem dX0_init_138 : decode cX0_init 138 = .ok (.putfield 107, 3) := dk_181 0 107 (dk_at dksX0_init_5 20 rfl rfl)
theorem dX0_init_141 : decode cX0_init 141 = .ok (.return_, 1) := dk_177 (dk_at dksX0_init_5 23 rfl rfl)
abbrev cX0_letter : ByteArray := prog_1_method_64_code
def yX0_letter : MethodName := ⟨RX0, "letter", "(I)I"⟩
def dkwX0_letter_0 : List UInt8 := [42, 3, 27, 3, 3, 182, 1, 199, 172]
abbrev dktX0_letter_0 : List UInt8 := dkwX0_letter_0 ++ []
theorem dksX0_letter_0 : cX0_letter.data.toList.drop 0 = dktX0_letter_0 := by decide +kernel
theorem dX0_letter_0 : decode cX0_letter 0 = .ok (.aload_n 0, 1) := dk_42 (dk_at dksX0_letter_0 0 rfl rfl)
theorem dX0_letter_1 : decode cX0_letter 1 = .ok (.iconst 0, 1) := dk_3 (dk_at dksX0_letter_0 1 rfl rfl)
theorem dX0_letter_2 : decode cX0_letter 2 = .ok (.iload_n 1, 1) := dk_27 (dk_at dksX0_letter_0 2 rfl rfl)
theorem dX0_letter_3 : decode cX0_letter 3 = .ok (.iconst 0, 1) := dk_3 (dk_at dksX0_letter_0 3 rfl rfl)
theorem dX0_letter_4 : decode cX0_letter 4 = .ok (.iconst 0, 1) := dk_3 (dk_at dksX0_letter_0 4 rfl rfl)
theorem dX0_letter_5 : decode cX0_letter 5 = .ok (.invokevirtual 455, 3) := dk_182 1 199 (dk_at dksX0_letter_0 5 rfl rfl)
theorem dX0_letter_8 : decode cX0_letter 8 = .ok (.ireturn, 1) := dk_172 (dk_at dksX0_letter_0 8 rfl rfl)
abbrev cX0_act : ByteArray := prog_1_method_48_code
def yX0_act : MethodName := ⟨RX0, "act", "(IIII)I"⟩
def dkwX0_act_1 : List UInt8 := [182, 1, 82, 172, 58, 5, 42, 25, 5, 182, 1, 88, 182, 1, 91, 172]
abbrev dktX0_act_1 : List UInt8 := dkwX0_act_1 ++ []
def dkwX0_act_0 : List UInt8 := [27, 16, 16, 162, 0, 13, 42, 27, 28, 29, 182, 1, 78, 167, 0, 12, 42, 27, 28, 29, 21, 4]
abbrev dktX0_act_0 : List UInt8 := dkwX0_act_0 ++ dktX0_act_1
theorem dksX0_act_0 : cX0_act.data.toList.drop 0 = dktX0_act_0 := by decide +kernel
theorem dksX0_act_1 : cX0_act.data.toList.drop 22 = dktX0_act_1 := dk_seg dksX0_act_0 22 rfl rfl
theorem dX0_act_0 : decode cX0_act 0 = .ok (.iload_n 1, 1) := dk_27 (dk_at dksX0_act_0 0 rfl rfl)
theorem dX0_act_1 : decode cX0_act 1 = .ok (.bipush 16, 2) := dk_16 16 (dk_at dksX0_act_0 1 rfl rfl)
theorem dX0_act_3 : decode cX0_act 3 = .ok (.if_icmp .ge 13, 3) := dk_162 0 13 (dk_at dksX0_act_0 3 rfl rfl)
theorem dX0_act_6 : decode cX0_act 6 = .ok (.aload_n 0, 1) := dk_42 (dk_at dksX0_act_0 6 rfl rfl)
theorem dX0_act_7 : decode cX0_act 7 = .ok (.iload_n 1, 1) := dk_27 (dk_at dksX0_act_0 7 rfl rfl)
theorem dX0_act_8 : decode cX0_act 8 = .ok (.iload_n 2, 1) := dk_28 (dk_at dksX0_act_0 8 rfl rfl)
theorem dX0_act_9 : decode cX0_act 9 = .ok (.iload_n 3, 1) := dk_29 (dk_at dksX0_act_0 9 rfl rfl)
theorem dX0_act_10 : decode cX0_act 10 = .ok (.invokevirtual 334, 3) := dk_182 1 78 (dk_at dksX0_act_0 10 rfl rfl)
theorem dX0_act_13 : decode cX0_act 13 = .ok (.goto 12, 3) := dk_167 0 12 (dk_at dksX0_act_0 13 rfl rfl)
theorem dX0_act_16 : decode cX0_act 16 = .ok (.aload_n 0, 1) := dk_42 (dk_at dksX0_act_0 16 rfl rfl)
theorem dX0_act_17 : decode cX0_act 17 = .ok (.iload_n 1, 1) := dk_27 (dk_at dksX0_act_0 17 rfl rfl)
theorem dX0_act_18 : decode cX0_act 18 = .ok (.iload_n 2, 1) := dk_28 (dk_at dksX0_act_0 18 rfl rfl)
theorem dX0_act_19 : decode cX0_act 19 = .ok (.iload_n 3, 1) := dk_29 (dk_at dksX0_act_0 19 rfl rfl)
theorem dX0_act_20 : decode cX0_act 20 = .ok (.iload 4, 2) := dk_21 4 (dk_at dksX0_act_0 20 rfl rfl)
theorem dX0_act_22 : decode cX0_act 22 = .ok (.invokevirtual 338, 3) := dk_182 1 82 (dk_at dksX0_act_1 0 rfl rfl)
theorem dX0_act_25 : decode cX0_act 25 = .ok (.ireturn, 1) := dk_172 (dk_at dksX0_act_1 3 rfl rfl)
theorem dX0_act_26 : decode cX0_act 26 = .ok (.astore 5, 2) := dk_58 5 (dk_at dksX0_act_1 4 rfl rfl)
theorem dX0_act_28 : decode cX0_act 28 = .ok (.aload_n 0, 1) := dk_42 (dk_at dksX0_act_1 6 rfl rfl)
theorem dX0_act_29 : decode cX0_act 29 = .ok (.aload 5, 2) := dk_25 5 (dk_at dksX0_act_1 7 rfl rfl)
theorem dX0_act_31 : decode cX0_act 31 = .ok (.invokevirtual 344, 3) := dk_182 1 88 (dk_at dksX0_act_1 9 rfl rfl)
theorem dX0_act_34 : decode cX0_act 34 = .ok (.invokevirtual 347, 3) := dk_182 1 91 (dk_at dksX0_act_1 12 rfl rfl)
theorem dX0_act_37 : decode cX0_act 37 = .ok (.ireturn, 1) := dk_172 (dk_at dksX0_act_1 15 rfl rfl)
abbrev cX0_ofFaults : ByteArray := prog_1_method_54_code
def yX0_ofFaults : MethodName := ⟨RX0, "ofFaults", "(III)I"⟩
def dkwX0_ofFaults_8 : List UInt8 := [29, 182, 1, 137, 172]
abbrev dktX0_ofFaults_8 : List UInt8 := dkwX0_ofFaults_8 ++ []
def dkwX0_ofFaults_7 : List UInt8 := [182, 0, 152, 192, 0, 232, 182, 0, 252, 172, 42, 28, 29, 182, 1, 131, 172, 42, 182, 1, 134, 172, 42, 28]
abbrev dktX0_ofFaults_7 : List UInt8 := dkwX0_ofFaults_7 ++ dktX0_ofFaults_8
def dkwX0_ofFaults_6 : List UInt8 := [172, 42, 182, 0, 229, 182, 1, 37, 153, 0, 8, 16, 247, 167, 0, 20, 42, 182, 0, 229, 180, 0, 221, 3]
abbrev dktX0_ofFaults_6 : List UInt8 := dkwX0_ofFaults_6 ++ dktX0_ofFaults_7
def dkwX0_ofFaults_5 : List UInt8 := [29, 182, 1, 119, 172, 42, 28, 182, 1, 122, 172, 42, 28, 182, 1, 125, 172, 42, 182, 0, 229, 180, 1, 128]
abbrev dktX0_ofFaults_5 : List UInt8 := dkwX0_ofFaults_5 ++ dktX0_ofFaults_6
def dkwX0_ofFaults_4 : List UInt8 := [187, 0, 93, 89, 183, 0, 95, 182, 0, 188, 172, 42, 182, 0, 229, 180, 0, 221, 180, 0, 149, 172, 42, 28]
abbrev dktX0_ofFaults_4 : List UInt8 := dkwX0_ofFaults_4 ++ dktX0_ofFaults_5
def dkwX0_ofFaults_3 : List UInt8 := [182, 0, 145, 28, 182, 0, 152, 192, 0, 155, 180, 0, 157, 172, 42, 28, 29, 182, 1, 116, 172, 42, 28]
abbrev dktX0_ofFaults_3 : List UInt8 := dkwX0_ofFaults_3 ++ dktX0_ofFaults_4
def dkwX0_ofFaults_2 : List UInt8 := [42, 28, 182, 1, 104, 172, 42, 182, 1, 107, 172, 42, 182, 1, 110, 172, 42, 28, 29, 182, 1, 113, 172, 42]
abbrev dktX0_ofFaults_2 : List UInt8 := dkwX0_ofFaults_2 ++ dktX0_ofFaults_3
def dkwX0_ofFaults_1 : List UInt8 := [170, 0, 0, 0, 0, 0, 216, 0, 0, 0, 0, 0, 0, 0, 14, 0, 0, 0, 75, 0, 0, 0, 81, 0, 0, 0, 86, 0, 0, 0, 91, 0, 0, 0, 98, 0, 0, 0, 113, 0, 0, 0, 120, 0, 0, 0, 133, 0, 0, 0, 144, 0, 0, 0, 151, 0, 0, 0, 157, 0, 0, 0, 163, 0, 0, 0, 171, 0, 0, 0, 204, 0, 0, 0, 211]
abbrev dktX0_ofFaults_1 : List UInt8 := dkwX0_ofFaults_1 ++ dktX0_ofFaults_2
def dkwX0_ofFaults_0 : List UInt8 := [27]
abbrev dktX0_ofFaults_0 : List UInt8 := dkwX0_ofFaults_0 ++ dktX0_ofFaults_1
theorem dksX0_ofFaults_0 : cX0_ofFaults.data.toList.drop 0 = dktX0_ofFaults_0 := by decide +kernel
theorem dksX0_ofFaults_1 : cX0_ofFaults.data.toList.drop 1 = dktX0_ofFaults_1 := dk_seg dksX0_ofFaults_0 1 rfl rfl
theorem dksX0_ofFaults_2 : cX0_ofFaults.data.toList.drop 76 = dktX0_ofFaults_2 := dk_seg dksX0_ofFaults_1 75 rfl rfl
theorem dksX0_ofFaults_3 : cX0_ofFaults.data.toList.drop 100 = dktX0_ofFaults_3 := dk_seg dksX0_ofFaults_2 24 rfl rfl
theorem dksX0_ofFaults_4 : cX0_ofFaults.data.toList.drop 123 = dktX0_ofFaults_4 := dk_seg dksX0_ofFaults_3 23 rfl rfl
theorem dksX0_ofFaults_5 : cX0_ofFaults.data.toList.drop 147 = dktX0_ofFaults_5 := dk_seg dksX0_ofFaults_4 24 rfl rfl
theorem dksX0_ofFaults_6 : cX0_ofFaults.data.toList.drop 171 = dktX0_ofFaults_6 := dk_seg dksX0_ofFaults_5 24 rfl rfl
theorem dksX0_ofFaults_7 : cX0_ofFaults.data.toList.drop 195 = dktX0_ofFaults_7 := dk_seg dksX0_ofFaults_6 24 rfl rfl
theorem dksX0_ofFaults_8 : cX0_ofFaults.data.toList.drop 219 = dktX0_ofFaults_8 := dk_seg dksX0_ofFaults_7 24 rfl rfl
theorem dX0_ofFaults_0 : decode cX0_ofFaults 0 = .ok (.iload_n 1, 1) := dk_27 (dk_at dksX0_ofFaults_0 0 rfl rfl)
theorem dX0_ofFaults_1 : decode cX0_ofFaults 1 = .ok (.tableswitch 216 0 14 #[75, 81, 86, 91, 98, 113, 120, 133, 144, 151, 157, 163, 171, 204, 211], 75) := by decide +kernel
theorem dX0_ofFaults_76 : decode cX0_ofFaults 76 = .ok (.aload_n 0, 1) := dk_42 (dk_at dksX0_ofFaults_2 0 rfl rfl)
theorem dX0_ofFaults_77 : decode cX0_ofFaults 77 = .ok (.iload_n 2, 1) := dk_28 (dk_at dksX0_ofFaults_2 1 rfl rfl)
theorem dX0_ofFaults_78 : decode cX0_ofFaults 78 = .ok (.invokevirtual 360, 3) := dk_182 1 104 (dk_at dksX0_ofFaults_2 2 rfl rfl)
theorem dX0_ofFaults_81 : decode cX0_ofFaults 81 = .ok (.ireturn, 1) := dk_172 (dk_at dksX0_ofFaults_2 5 rfl rfl)
theorem dX0_ofFaults_82 : decode cX0_ofFaults 82 = .ok (.aload_n 0, 1) := dk_42 (dk_at dksX0_ofFaults_2 6 rfl rfl)
theorem dX0_ofFaults_83 : decode cX0_ofFaults 83 = .ok (.invokevirtual 363, 3) := dk_182 1 107 (dk_at dksX0_ofFaults_2 7 rfl rfl)
theorem dX0_ofFaults_86 : decode cX0_ofFaults 86 = .ok (.ireturn, 1) := dk_172 (dk_at dksX0_ofFaults_2 10 rfl rfl)
theorem dX0_ofFaults_87 : decode cX0_ofFaults 87 = .ok (.aload_n 0, 1) := dk_42 (dk_at dksX0_ofFaults_2 11 rfl rfl)
theorem dX0_ofFaults_88 : decode cX0_ofFaults 88 = .ok (.invokevirtual 366, 3) := dk_182 1 110 (dk_at dksX0_ofFaults_2 12 rfl rfl)
theorem dX0_ofFaults_91 : decode cX0_ofFaults 91 = .ok (.ireturn, 1) := dk_172 (dk_at dksX0_ofFaults_2 15 rfl rfl)
theorem dX0_ofFaults_92 : decode cX0_ofFaults 92 = .ok (.aload_n 0, 1) := dk_42 (dk_at dksX0_ofFaults_2 16 rfl rfl)
theorem dX0_ofFaults_93 : decode cX0_ofFaults 93 = .ok (.iload_n 2, 1) := dk_28 (dk_at dksX0_ofFaults_2 17 rfl rfl)
theorem dX0_ofFaults_94 : decode cX0_ofFaults 94 = .ok (.iload_n 3, 1) := dk_29 (dk_at dksX0_ofFaults_2 18 rfl rfl)
theorem dX0_ofFaults_95 : decode cX0_ofFaults 95 = .ok (.invokevirtual 369, 3) := dk_182 1 113 (dk_at dksX0_ofFaults_2 19 rfl rfl)
theorem dX0_ofFaults_98 : decode cX0_ofFaults 98 = .ok (.ireturn, 1) := dk_172 (dk_at dksX0_ofFaults_2 22 rfl rfl)
theorem dX0_ofFaults_99 : decode cX0_ofFaults 99 = .ok (.aload_n 0, 1) := dk_42 (dk_at dksX0_ofFaults_2 23 rfl rfl)
theorem dX0_ofFaults_100 : decode cX0_ofFaults 100 = .ok (.invokevirtual 145, 3) := dk_182 0 145 (dk_at dksX0_ofFaults_3 0 rfl rfl)
theorem dX0_ofFaults_103 : decode cX0_ofFaults 103 = .ok (.iload_n 2, 1) := dk_28 (dk_at dksX0_ofFaults_3 3 rfl rfl)
theorem dX0_ofFaults_104 : decode cX0_ofFaults 104 = .ok (.invokevirtual 152, 3) := dk_182 0 152 (dk_at dksX0_ofFaults_3 4 rfl rfl)
theorem dX0_ofFaults_107 : decode cX0_ofFaults 107 = .ok (.checkcast 155, 3) := dk_192 0 155 (dk_at dksX0_ofFaults_3 7 rfl rfl)
theorem dX0_ofFaults_110 : decode cX0_ofFaults 110 = .ok (.getfield 157, 3) := dk_180 0 157 (dk_at dksX0_ofFaults_3 10 rfl rfl)
theorem dX0_ofFaults_113 : decode cX0_ofFaults 113 = .ok (.ireturn, 1) := dk_172 (dk_at dksX0_ofFaults_3 13 rfl rfl)
theorem dX0_ofFaults_114 : decode cX0_ofFaults 114 = .ok (.aload_n 0, 1) := dk_42 (dk_at dksX0_ofFaults_3 14 rfl rfl)
theorem dX0_ofFaults_115 : decode cX0_ofFaults 115 = .ok (.iload_n 2, 1) := dk_28 (dk_at dksX0_ofFaults_3 15 rfl rfl)
theorem dX0_ofFaults_116 : decode cX0_ofFaults 116 = .ok (.iload_n 3, 1) := dk_29 (dk_at dksX0_ofFaults_3 16 rfl rfl)
theorem dX0_ofFaults_117 : decode cX0_ofFaults 117 = .ok (.invokevirtual 372, 3) := dk_182 1 116 (dk_at dksX0_ofFaults_3 17 rfl rfl)
theorem dX0_ofFaults_120 : decode cX0_ofFaults 120 = .ok (.ireturn, 1) := dk_172 (dk_at dksX0_ofFaults_3 20 rfl rfl)
theorem dX0_ofFaults_121 : decode cX0_ofFaults 121 = .ok (.aload_n 0, 1) := dk_42 (dk_at dksX0_ofFaults_3 21 rfl rfl)
theorem dX0_ofFaults_122 : decode cX0_ofFaults 122 = .ok (.iload_n 2, 1) := dk_28 (dk_at dksX0_ofFaults_3 22 rfl rfl)
theorem dX0_ofFaults_123 : decode cX0_ofFaults 123 = .ok (.new 93, 3) := dk_187 0 93 (dk_at dksX0_ofFaults_4 0 rfl rfl)
theorem dX0_ofFaults_126 : decode cX0_ofFaults 126 = .ok (.dup, 1) := dk_89 (dk_at dksX0_ofFaults_4 3 rfl rfl)
theorem dX0_ofFaults_127 : decode cX0_ofFaults 127 = .ok (.invokespecial 95, 3) := dk_183 0 95 (dk_at dksX0_ofFaults_4 4 rfl rfl)
theorem dX0_ofFaults_130 : decode cX0_ofFaults 130 = .ok (.invokevirtual 188, 3) := dk_182 0 188 (dk_at dksX0_ofFaults_4 7 rfl rfl)
theorem dX0_ofFaults_133 : decode cX0_ofFaults 133 = .ok (.ireturn, 1) := dk_172 (dk_at dksX0_ofFaults_4 10 rfl rfl)
theorem dX0_ofFaults_134 : decode cX0_ofFaults 134 = .ok (.aload_n 0, 1) := dk_42 (dk_at dksX0_ofFaults_4 11 rfl rfl)
theorem dX0_ofFaults_135 : decode cX0_ofFaults 135 = .ok (.invokevirtual 229, 3) := dk_182 0 229 (dk_at dksX0_ofFaults_4 12 rfl rfl)
theorem dX0_ofFaults_138 : decode cX0_ofFaults 138 = .ok (.getfield 221, 3) := dk_180 0 221 (dk_at dksX0_ofFaults_4 15 rfl rfl)
theorem dX0_ofFaults_141 : decode cX0_ofFaults 141 = .ok (.getfield 149, 3) := dk_180 0 149 (dk_at dksX0_ofFaults_4 18 rfl rfl)
theorem dX0_ofFaults_144 : decode cX0_ofFaults 144 = .ok (.ireturn, 1) := dk_172 (dk_at dksX0_ofFaults_4 21 rfl rfl)
theorem dX0_ofFaults_145 : decode cX0_ofFaults 145 = .ok (.aload_n 0, 1) := dk_42 (dk_at dksX0_ofFaults_4 22 rfl rfl)
theorem dX0_ofFaults_146 : decode cX0_ofFaults 146 = .ok (.iload_n 2, 1) := dk_28 (dk_at dksX0_ofFaults_4 23 rfl rfl)
theorem dX0_ofFaults_147 : decode cX0_ofFaults 147 = .ok (.iload_n 3, 1) := dk_29 (dk_at dksX0_ofFaults_5 0 rfl rfl)
theorem dX0_ofFaults_148 : decode cX0_ofFaults 148 = .ok (.invokevirtual 375, 3) := dk_182 1 119 (dk_at dksX0_ofFaults_5 1 rfl rfl)
theorem dX0_ofFaults_151 : decode cX0_ofFaults 151 = .ok (.ireturn, 1) := dk_172 (dk_at dksX0_ofFaults_5 4 rfl rfl)
theorem dX0_ofFaults_152 : decode cX0_ofFaults 152 = .ok (.aload_n 0, 1) := dk_42 (dk_at dksX0_ofFaults_5 5 rfl rfl)
theorem dX0_ofFaults_153 : decode cX0_ofFaults 153 = .ok (.iload_n 2, 1) := dk_28 (dk_at dksX0_ofFaults_5 6 rfl rfl)
theorem dX0_ofFaults_154 : decode cX0_ofFaults 154 = .ok (.invokevirtual 378, 3) := dk_182 1 122 (dk_at dksX0_ofFaults_5 7 rfl rfl)
theorem dX0_ofFaults_157 : decode cX0_ofFaults 157 = .ok (.ireturn, 1) := dk_172 (dk_at dksX0_ofFaults_5 10 rfl rfl)
theorem dX0_ofFaults_158 : decode cX0_ofFaults 158 = .ok (.aload_n 0, 1) := dk_42 (dk_at dksX0_ofFaults_5 11 rfl rfl)
theorem dX0_ofFaults_159 : decode cX0_ofFaults 159 = .ok (.iload_n 2, 1) := dk_28 (dk_at dksX0_ofFaults_5 12 rfl rfl)
theorem dX0_ofFaults_160 : decode cX0_ofFaults 160 = .ok (.invokevirtual 381, 3) := dk_182 1 125 (dk_at dksX0_ofFaults_5 13 rfl rfl)
theorem dX0_ofFaults_163 : decode cX0_ofFaults 163 = .ok (.ireturn, 1) := dk_172 (dk_at dksX0_ofFaults_5 16 rfl rfl)
theorem dX0_ofFaults_164 : decode cX0_ofFaults 164 = .ok (.aload_n 0, 1) := dk_42 (dk_at dksX0_ofFaults_5 17 rfl rfl)
theorem dX0_ofFaults_165 : decode cX0_ofFaults 165 = .ok (.invokevirtual 229, 3) := dk_182 0 229 (dk_at dksX0_ofFaults_5 18 rfl rfl)
theorem dX0_ofFaults_168 : decode cX0_ofFaults 168 = .ok (.getfield 384, 3) := dk_180 1 128 (dk_at dksX0_ofFaults_5 21 rfl rfl)
theorem dX0_ofFaults_171 : decode cX0_ofFaults 171 = .ok (.ireturn, 1) := dk_172 (dk_at dksX0_ofFaults_6 0 rfl rfl)
theorem dX0_ofFaults_172 : decode cX0_ofFaults 172 = .ok (.aload_n 0, 1) := dk_42 (dk_at dksX0_ofFaults_6 1 rfl rfl)
theorem dX0_ofFaults_173 : decode cX0_ofFaults 173 = .ok (.invokevirtual 229, 3) := dk_182 0 229 (dk_at dksX0_ofFaults_6 2 rfl rfl)
theorem dX0_ofFaults_176 : decode cX0_ofFaults 176 = .ok (.invokevirtual 293, 3) := dk_182 1 37 (dk_at dksX0_ofFaults_6 5 rfl rfl)
theorem dX0_ofFaults_179 : decode cX0_ofFaults 179 = .ok (.ifCond .eq 8, 3) := dk_153 0 8 (dk_at dksX0_ofFaults_6 8 rfl rfl)
theorem dX0_ofFaults_182 : decode cX0_ofFaults 182 = .ok (.bipush (-9), 2) := dk_16 247 (dk_at dksX0_ofFaults_6 11 rfl rfl)
theorem dX0_ofFaults_184 : decode cX0_ofFaults 184 = .ok (.goto 20, 3) := dk_167 0 20 (dk_at dksX0_ofFaults_6 13 rfl rfl)
theorem dX0_ofFaults_187 : decode cX0_ofFaults 187 = .ok (.aload_n 0, 1) := dk_42 (dk_at dksX0_ofFaults_6 16 rfl rfl)
theorem dX0_ofFaults_188 : decode cX0_ofFaults 188 = .ok (.invokevirtual 229, 3) := dk_182 0 229 (dk_at dksX0_ofFaults_6 17 rfl rfl)
theorem dX0_ofFaults_191 : decode cX0_ofFaults 191 = .ok (.getfield 221, 3) := dk_180 0 221 (dk_at dksX0_ofFaults_6 20 rfl rfl)
theorem dX0_ofFaults_194 : decode cX0_ofFaults 194 = .ok (.iconst 0, 1) := dk_3 (dk_at dksX0_ofFaults_6 23 rfl rfl)
theorem dX0_ofFaults_195 : decode cX0_ofFaults 195 = .ok (.invokevirtual 152, 3) := dk_182 0 152 (dk_at dksX0_ofFaults_7 0 rfl rfl)
theorem dX0_ofFaults_198 : decode cX0_ofFaults 198 = .ok (.checkcast 232, 3) := dk_192 0 232 (dk_at dksX0_ofFaults_7 3 rfl rfl)
theorem dX0_ofFaults_201 : decode cX0_ofFaults 201 = .ok (.invokevirtual 252, 3) := dk_182 0 252 (dk_at dksX0_ofFaults_7 6 rfl rfl)
theorem dX0_ofFaults_204 : decode cX0_ofFaults 204 = .ok (.ireturn, 1) := dk_172 (dk_at dksX0_ofFaults_7 9 rfl rfl)
theorem dX0_ofFaults_205 : decode cX0_ofFaults 205 = .ok (.aload_n 0, 1) := dk_42 (dk_at dksX0_ofFaults_7 10 rfl rfl)
theorem dX0_ofFaults_206 : decode cX0_ofFaults 206 = .ok (.iload_n 2, 1) := dk_28 (dk_at dksX0_ofFaults_7 11 rfl rfl)
theorem dX0_ofFaults_207 : decode cX0_ofFaults 207 = .ok (.iload_n 3, 1) := dk_29 (dk_at dksX0_ofFaults_7 12 rfl rfl)
theorem dX0_ofFaults_208 : decode cX0_ofFaults 208 = .ok (.invokevirtual 387, 3) := dk_182 1 131 (dk_at dksX0_ofFaults_7 13 rfl rfl)
theorem dX0_ofFaults_211 : decode cX0_ofFaults 211 = .ok (.ireturn, 1) := dk_172 (dk_at dksX0_ofFaults_7 16 rfl rfl)
theorem dX0_ofFaults_212 : decode cX0_ofFaults 212 = .ok (.aload_n 0, 1) := dk_42 (dk_at dksX0_ofFaults_7 17 rfl rfl)
theorem dX0_ofFaults_213 : decode cX0_ofFaults 213 = .ok (.invokevirtual 390, 3) := dk_182 1 134 (dk_at dksX0_ofFaults_7 18 rfl rfl)
theorem dX0_ofFaults_216 : decode cX0_ofFaults 216 = .ok (.ireturn, 1) := dk_172 (dk_at dksX0_ofFaults_7 21 rfl rfl)
theorem dX0_ofFaults_217 : decode cX0_ofFaults 217 = .ok (.aload_n 0, 1) := dk_42 (dk_at dksX0_ofFaults_7 22 rfl rfl)
theorem dX0_ofFaults_218 : decode cX0_ofFaults 218 = .ok (.iload_n 2, 1) := dk_28 (dk_at dksX0_ofFaults_7 23 rfl rfl)
theorem dX0_ofFaults_219 : decode cX0_ofFaults 219 = .ok (.iload_n 3, 1) := dk_29 (dk_at dksX0_ofFaults_8 0 rfl rfl)
theorem dX0_ofFaults_220 : decode cX0_ofFaults 220 = .ok (.invokevirtual 393, 3) := dk_182 1 137 (dk_at dksX0_ofFaults_8 1 rfl rfl)
theorem dX0_ofFaults_223 : decode cX0_ofFaults 223 = .ok (.ireturn, 1) := dk_172 (dk_at dksX0_ofFaults_8 4 rfl rfl)
abbrev cX0_letterIt : ByteArray := prog_1_method_51_code
def yX0_letterIt : MethodName := ⟨RX0, "letterIt", "(I)I"⟩
def dkwX0_letterIt_2 : List UInt8 := [181, 0, 123, 42, 180, 0, 123, 172]
abbrev dktX0_letterIt_2 : List UInt8 := dkwX0_letterIt_2 ++ []
def dkwX0_letterIt_1 : List UInt8 := [16, 250, 184, 0, 9, 42, 180, 0, 81, 42, 180, 0, 123, 27, 146, 85, 42, 89, 180, 0, 123, 4, 96]
abbrev dktX0_letterIt_1 : List UInt8 := dkwX0_letterIt_1 ++ dktX0_letterIt_2
def dkwX0_letterIt_0 : List UInt8 := [27, 133, 9, 20, 1, 96, 184, 0, 184, 42, 180, 0, 123, 16, 96, 162, 0, 7, 4, 167, 0, 4, 3]
abbrev dktX0_letterIt_0 : List UInt8 := dkwX0_letterIt_0 ++ dktX0_letterIt_1
theorem dksX0_letterIt_0 : cX0_letterIt.data.toList.drop 0 = dktX0_letterIt_0 := by decide +kernel
theorem dksX0_letterIt_1 : cX0_letterIt.data.toList.drop 23 = dktX0_letterIt_1 := dk_seg dksX0_letterIt_0 23 rfl rfl
theorem dksX0_letterIt_2 : cX0_letterIt.data.toList.drop 46 = dktX0_letterIt_2 := dk_seg dksX0_letterIt_1 23 rfl rfl
theorem dX0_letterIt_0 : decode cX0_letterIt 0 = .ok (.iload_n 1, 1) := dk_27 (dk_at dksX0_letterIt_0 0 rfl rfl)
theorem dX0_letterIt_1 : decode cX0_letterIt 1 = .ok (.i2l, 1) := dk_133 (dk_at dksX0_letterIt_0 1 rfl rfl)
theorem dX0_letterIt_2 : decode cX0_letterIt 2 = .ok (.lconst 0, 1) := dk_9 (dk_at dksX0_letterIt_0 2 rfl rfl)
theorem dX0_letterIt_3 : decode cX0_letterIt 3 = .ok (.ldc2_w 352, 3) := dk_20 1 96 (dk_at dksX0_letterIt_0 3 rfl rfl)
theorem dX0_letterIt_6 : decode cX0_letterIt 6 = .ok (.invokestatic 184, 3) := dk_184 0 184 (dk_at dksX0_letterIt_0 6 rfl rfl)
theorem dX0_letterIt_9 : decode cX0_letterIt 9 = .ok (.aload_n 0, 1) := dk_42 (dk_at dksX0_letterIt_0 9 rfl rfl)
theorem dX0_letterIt_10 : decode cX0_letterIt 10 = .ok (.getfield 123, 3) := dk_180 0 123 (dk_at dksX0_letterIt_0 10 rfl rfl)
theorem dX0_letterIt_13 : decode cX0_letterIt 13 = .ok (.bipush 96, 2) := dk_16 96 (dk_at dksX0_letterIt_0 13 rfl rfl)
theorem dX0_letterIt_15 : decode cX0_letterIt 15 = .ok (.if_icmp .ge 7, 3) := dk_162 0 7 (dk_at dksX0_letterIt_0 15 rfl rfl)
theorem dX0_letterIt_18 : decode cX0_letterIt 18 = .ok (.iconst 1, 1) := dk_4 (dk_at dksX0_letterIt_0 18 rfl rfl)
theorem dX0_letterIt_19 : decode cX0_letterIt 19 = .ok (.goto 4, 3) := dk_167 0 4 (dk_at dksX0_letterIt_0 19 rfl rfl)
theorem dX0_letterIt_22 : decode cX0_letterIt 22 = .ok (.iconst 0, 1) := dk_3 (dk_at dksX0_letterIt_0 22 rfl rfl)
theorem dX0_letterIt_23 : decode cX0_letterIt 23 = .ok (.bipush (-6), 2) := dk_16 250 (dk_at dksX0_letterIt_1 0 rfl rfl)
theorem dX0_letterIt_25 : decode cX0_letterIt 25 = .ok (.invokestatic 9, 3) := dk_184 0 9 (dk_at dksX0_letterIt_1 2 rfl rfl)
theorem dX0_letterIt_28 : decode cX0_letterIt 28 = .ok (.aload_n 0, 1) := dk_42 (dk_at dksX0_letterIt_1 5 rfl rfl)
theorem dX0_letterIt_29 : decode cX0_letterIt 29 = .ok (.getfield 81, 3) := dk_180 0 81 (dk_at dksX0_letterIt_1 6 rfl rfl)
theorem dX0_letterIt_32 : decode cX0_letterIt 32 = .ok (.aload_n 0, 1) := dk_42 (dk_at dksX0_letterIt_1 9 rfl rfl)
theorem dX0_letterIt_33 : decode cX0_letterIt 33 = .ok (.getfield 123, 3) := dk_180 0 123 (dk_at dksX0_letterIt_1 10 rfl rfl)
theorem dX0_letterIt_36 : decode cX0_letterIt 36 = .ok (.iload_n 1, 1) := dk_27 (dk_at dksX0_letterIt_1 13 rfl rfl)
theorem dX0_letterIt_37 : decode cX0_letterIt 37 = .ok (.i2c, 1) := dk_146 (dk_at dksX0_letterIt_1 14 rfl rfl)
theorem dX0_letterIt_38 : decode cX0_letterIt 38 = .ok (.castore, 1) := dk_85 (dk_at dksX0_letterIt_1 15 rfl rfl)
theorem dX0_letterIt_39 : decode cX0_letterIt 39 = .ok (.aload_n 0, 1) := dk_42 (dk_at dksX0_letterIt_1 16 rfl rfl)
theorem dX0_letterIt_40 : decode cX0_letterIt 40 = .ok (.dup, 1) := dk_89 (dk_at dksX0_letterIt_1 17 rfl rfl)
theorem dX0_letterIt_41 : decode cX0_letterIt 41 = .ok (.getfield 123, 3) := dk_180 0 123 (dk_at dksX0_letterIt_1 18 rfl rfl)
theorem dX0_letterIt_44 : decode cX0_letterIt 44 = .ok (.iconst 1, 1) := dk_4 (dk_at dksX0_letterIt_1 21 rfl rfl)
theorem dX0_letterIt_45 : decode cX0_letterIt 45 = .ok (.iadd, 1) := dk_96 (dk_at dksX0_letterIt_1 22 rfl rfl)
theorem dX0_letterIt_46 : decode cX0_letterIt 46 = .ok (.putfield 123, 3) := dk_181 0 123 (dk_at dksX0_letterIt_2 0 rfl rfl)
theorem dX0_letterIt_49 : decode cX0_letterIt 49 = .ok (.aload_n 0, 1) := dk_42 (dk_at dksX0_letterIt_2 3 rfl rfl)
theorem dX0_letterIt_50 : decode cX0_letterIt 50 = .ok (.getfield 123, 3) := dk_180 0 123 (dk_at dksX0_letterIt_2 4 rfl rfl)
theorem dX0_letterIt_53 : decode cX0_letterIt 53 = .ok (.ireturn, 1) := dk_172 (dk_at dksX0_letterIt_2 7 rfl rfl)
abbrev cX0_within : ByteArray := prog_1_method_3_code
def yX0_within : MethodName := ⟨RX0, "within", "(JJJ)V"⟩
def dkwX0_within_1 : List UInt8 := [167, 0, 4, 3, 16, 250, 184, 0, 9, 177]
abbrev dktX0_within_1 : List UInt8 := dkwX0_within_1 ++ []
def dkwX0_within_0 : List UInt8 := [30, 32, 148, 155, 0, 7, 4, 167, 0, 4, 3, 16, 252, 184, 0, 9, 30, 22, 4, 148, 157, 0, 7, 4]
abbrev dktX0_within_0 : List UInt8 := dkwX0_within_0 ++ dktX0_within_1
theorem dksX0_within_0 : cX0_within.data.toList.drop 0 = dktX0_within_0 := by decide +kernel
theorem dksX0_within_1 : cX0_within.data.toList.drop 24 = dktX0_within_1 := dk_seg dksX0_within_0 24 rfl rfl
theorem dX0_within_0 : decode cX0_within 0 = .ok (.lload_n 0, 1) := dk_30 (dk_at dksX0_within_0 0 rfl rfl)
theorem dX0_within_1 : decode cX0_within 1 = .ok (.lload_n 2, 1) := dk_32 (dk_at dksX0_within_0 1 rfl rfl)
theorem dX0_within_2 : decode cX0_within 2 = .ok (.lcmp, 1) := dk_148 (dk_at dksX0_within_0 2 rfl rfl)
theorem dX0_within_3 : decode cX0_within 3 = .ok (.ifCond .lt 7, 3) := dk_155 0 7 (dk_at dksX0_within_0 3 rfl rfl)
theorem dX0_within_6 : decode cX0_within 6 = .ok (.iconst 1, 1) := dk_4 (dk_at dksX0_within_0 6 rfl rfl)
theorem dX0_within_7 : decode cX0_within 7 = .ok (.goto 4, 3) := dk_167 0 4 (dk_at dksX0_within_0 7 rfl rfl)
theorem dX0_within_10 : decode cX0_within 10 = .ok (.iconst 0, 1) := dk_3 (dk_at dksX0_within_0 10 rfl rfl)
theorem dX0_within_11 : decode cX0_within 11 = .ok (.bipush (-4), 2) := dk_16 252 (dk_at dksX0_within_0 11 rfl rfl)
theorem dX0_within_13 : decode cX0_within 13 = .ok (.invokestatic 9, 3) := dk_184 0 9 (dk_at dksX0_within_0 13 rfl rfl)
theorem dX0_within_16 : decode cX0_within 16 = .ok (.lload_n 0, 1) := dk_30 (dk_at dksX0_within_0 16 rfl rfl)
theorem dX0_within_17 : decode cX0_within 17 = .ok (.lload 4, 2) := dk_22 4 (dk_at dksX0_within_0 17 rfl rfl)
theorem dX0_within_19 : decode cX0_within 19 = .ok (.lcmp, 1) := dk_148 (dk_at dksX0_within_0 19 rfl rfl)
theorem dX0_within_20 : decode cX0_within 20 = .ok (.ifCond .gt 7, 3) := dk_157 0 7 (dk_at dksX0_within_0 20 rfl rfl)
theorem dX0_within_23 : decode cX0_within 23 = .ok (.iconst 1, 1) := dk_4 (dk_at dksX0_within_0 23 rfl rfl)
theorem dX0_within_24 : decode cX0_within 24 = .ok (.goto 4, 3) := dk_167 0 4 (dk_at dksX0_within_1 0 rfl rfl)
theorem dX0_within_27 : decode cX0_within 27 = .ok (.iconst 0, 1) := dk_3 (dk_at dksX0_within_1 3 rfl rfl)
theorem dX0_within_28 : decode cX0_within 28 = .ok (.bipush (-6), 2) := dk_16 250 (dk_at dksX0_within_1 4 rfl rfl)
theorem dX0_within_30 : decode cX0_within 30 = .ok (.invokestatic 9, 3) := dk_184 0 9 (dk_at dksX0_within_1 6 rfl rfl)
theorem dX0_within_33 : decode cX0_within 33 = .ok (.return_, 1) := dk_177 (dk_at dksX0_within_1 9 rfl rfl)
abbrev cX0_must : ByteArray := prog_1_method_2_code
def yX0_must : MethodName := ⟨RX0, "must", "(ZI)V"⟩
def dkwX0_must_0 : List UInt8 := [26, 154, 0, 12, 187, 0, 1, 89, 27, 183, 0, 3, 191, 177]
abbrev dktX0_must_0 : List UInt8 := dkwX0_must_0 ++ []
theorem dksX0_must_0 : cX0_must.data.toList.drop 0 = dktX0_must_0 := by decide +kernel
theorem dX0_must_0 : decode cX0_must 0 = .ok (.iload_n 0, 1) := dk_26 (dk_at dksX0_must_0 0 rfl rfl)
theorem dX0_must_1 : decode cX0_must 1 = .ok (.ifCond .ne 12, 3) := dk_154 0 12 (dk_at dksX0_must_0 1 rfl rfl)
theorem dX0_must_4 : decode cX0_must 4 = .ok (.new 1, 3) := dk_187 0 1 (dk_at dksX0_must_0 4 rfl rfl)
theorem dX0_must_7 : decode cX0_must 7 = .ok (.dup, 1) := dk_89 (dk_at dksX0_must_0 7 rfl rfl)
theorem dX0_must_8 : decode cX0_must 8 = .ok (.iload_n 1, 1) := dk_27 (dk_at dksX0_must_0 8 rfl rfl)
theorem dX0_must_9 : decode cX0_must 9 = .ok (.invokespecial 3, 3) := dk_183 0 3 (dk_at dksX0_must_0 9 rfl rfl)
theorem dX0_must_12 : decode cX0_must 12 = .ok (.athrow, 1) := dk_191 (dk_at dksX0_must_0 12 rfl rfl)
theorem dX0_must_13 : decode cX0_must 13 = .ok (.return_, 1) := dk_177 (dk_at dksX0_must_0 13 rfl rfl)
abbrev cX0_readValue : ByteArray := prog_1_method_18_code
def yX0_readValue : MethodName := ⟨RX0, "readValue", "()I"⟩
def dkwX0_readValue_1 : List UInt8 := [44, 182, 0, 54, 62, 42, 3, 181, 0, 123, 29, 172, 58, 4, 42, 3, 181, 0, 123, 25, 4, 191]
abbrev dktX0_readValue_1 : List UInt8 := dkwX0_readValue_1 ++ []
def dkwX0_readValue_0 : List UInt8 := [187, 0, 111, 89, 42, 183, 0, 113, 76, 43, 3, 182, 0, 116, 77, 43, 182, 0, 120, 42, 44, 181, 0, 66]
abbrev dktX0_readValue_0 : List UInt8 := dkwX0_readValue_0 ++ dktX0_readValue_1
theorem dksX0_readValue_0 : cX0_readValue.data.toList.drop 0 = dktX0_readValue_0 := by decide +kernel
theorem dksX0_readValue_1 : cX0_readValue.data.toList.drop 24 = dktX0_readValue_1 := dk_seg dksX0_readValue_0 24 rfl rfl
theorem dX0_readValue_0 : decode cX0_readValue 0 = .ok (.new 111, 3) := dk_187 0 111 (dk_at dksX0_readValue_0 0 rfl rfl)
theorem dX0_readValue_3 : decode cX0_readValue 3 = .ok (.dup, 1) := dk_89 (dk_at dksX0_readValue_0 3 rfl rfl)
theorem dX0_readValue_4 : decode cX0_readValue 4 = .ok (.aload_n 0, 1) := dk_42 (dk_at dksX0_readValue_0 4 rfl rfl)
theorem dX0_readValue_5 : decode cX0_readValue 5 = .ok (.invokespecial 113, 3) := dk_183 0 113 (dk_at dksX0_readValue_0 5 rfl rfl)
theorem dX0_readValue_8 : decode cX0_readValue 8 = .ok (.astore_n 1, 1) := dk_76 (dk_at dksX0_readValue_0 8 rfl rfl)
theorem dX0_readValue_9 : decode cX0_readValue 9 = .ok (.aload_n 1, 1) := dk_43 (dk_at dksX0_readValue_0 9 rfl rfl)
theorem dX0_readValue_10 : decode cX0_readValue 10 = .ok (.iconst 0, 1) := dk_3 (dk_at dksX0_readValue_0 10 rfl rfl)
theorem dX0_readValue_11 : decode cX0_readValue 11 = .ok (.invokevirtual 116, 3) := dk_182 0 116 (dk_at dksX0_readValue_0 11 rfl rfl)
theorem dX0_readValue_14 : decode cX0_readValue 14 = .ok (.astore_n 2, 1) := dk_77 (dk_at dksX0_readValue_0 14 rfl rfl)
theorem dX0_readValue_15 : decode cX0_readValue 15 = .ok (.aload_n 1, 1) := dk_43 (dk_at dksX0_readValue_0 15 rfl rfl)
theorem dX0_readValue_16 : decode cX0_readValue 16 = .ok (.invokevirtual 120, 3) := dk_182 0 120 (dk_at dksX0_readValue_0 16 rfl rfl)
theorem dX0_readValue_19 : decode cX0_readValue 19 = .ok (.aload_n 0, 1) := dk_42 (dk_at dksX0_readValue_0 19 rfl rfl)
theorem dX0_readValue_20 : decode cX0_readValue 20 = .ok (.aload_n 2, 1) := dk_44 (dk_at dksX0_readValue_0 20 rfl rfl)
theorem dX0_readValue_21 : decode cX0_readValue 21 = .ok (.putfield 66, 3) := dk_181 0 66 (dk_at dksX0_readValue_0 21 rfl rfl)
theorem dX0_readValue_24 : decode cX0_readValue 24 = .ok (.aload_n 2, 1) := dk_44 (dk_at dksX0_readValue_1 0 rfl rfl)
theorem dX0_readValue_25 : decode cX0_readValue 25 = .ok (.invokevirtual 54, 3) := dk_182 0 54 (dk_at dksX0_readValue_1 1 rfl rfl)
theorem dX0_readValue_28 : decode cX0_readValue 28 = .ok (.istore_n 3, 1) := dk_62 (dk_at dksX0_readValue_1 4 rfl rfl)
theorem dX0_readValue_29 : decode cX0_readValue 29 = .ok (.aload_n 0, 1) := dk_42 (dk_at dksX0_readValue_1 5 rfl rfl)
theorem dX0_readValue_30 : decode cX0_readValue 30 = .ok (.iconst 0, 1) := dk_3 (dk_at dksX0_readValue_1 6 rfl rfl)
theorem dX0_readValue_31 : decode cX0_readValue 31 = .ok (.putfield 123, 3) := dk_181 0 123 (dk_at dksX0_readValue_1 7 rfl rfl)
theorem dX0_readValue_34 : decode cX0_readValue 34 = .ok (.iload_n 3, 1) := dk_29 (dk_at dksX0_readValue_1 10 rfl rfl)
theorem dX0_readValue_35 : decode cX0_readValue 35 = .ok (.ireturn, 1) := dk_172 (dk_at dksX0_readValue_1 11 rfl rfl)
theorem dX0_readValue_36 : decode cX0_readValue 36 = .ok (.astore 4, 2) := dk_58 4 (dk_at dksX0_readValue_1 12 rfl rfl)
theorem dX0_readValue_38 : decode cX0_readValue 38 = .ok (.aload_n 0, 1) := dk_42 (dk_at dksX0_readValue_1 14 rfl rfl)
theorem dX0_readValue_39 : decode cX0_readValue 39 = .ok (.iconst 0, 1) := dk_3 (dk_at dksX0_readValue_1 15 rfl rfl)
theorem dX0_readValue_40 : decode cX0_readValue 40 = .ok (.putfield 123, 3) := dk_181 0 123 (dk_at dksX0_readValue_1 16 rfl rfl)
theorem dX0_readValue_43 : decode cX0_readValue 43 = .ok (.aload 4, 2) := dk_25 4 (dk_at dksX0_readValue_1 19 rfl rfl)
theorem dX0_readValue_45 : decode cX0_readValue 45 = .ok (.athrow, 1) := dk_191 (dk_at dksX0_readValue_1 21 rfl rfl)
abbrev cX0_in : ByteArray := prog_1_method_1_code
def yX0_in : MethodName := ⟨RX0, "in", "(JJJ)Z"⟩
def dkwX0_in_0 : List UInt8 := [30, 32, 148, 155, 0, 14, 30, 22, 4, 148, 157, 0, 7, 4, 167, 0, 4, 3, 172]
abbrev dktX0_in_0 : List UInt8 := dkwX0_in_0 ++ []
theorem dksX0_in_0 : cX0_in.data.toList.drop 0 = dktX0_in_0 := by decide +kernel
theorem dX0_in_0 : decode cX0_in 0 = .ok (.lload_n 0, 1) := dk_30 (dk_at dksX0_in_0 0 rfl rfl)
theorem dX0_in_1 : decode cX0_in 1 = .ok (.lload_n 2, 1) := dk_32 (dk_at dksX0_in_0 1 rfl rfl)
theorem dX0_in_2 : decode cX0_in 2 = .ok (.lcmp, 1) := dk_148 (dk_at dksX0_in_0 2 rfl rfl)
theorem dX0_in_3 : decode cX0_in 3 = .ok (.ifCond .lt 14, 3) := dk_155 0 14 (dk_at dksX0_in_0 3 rfl rfl)
theorem dX0_in_6 : decode cX0_in 6 = .ok (.lload_n 0, 1) := dk_30 (dk_at dksX0_in_0 6 rfl rfl)
theorem dX0_in_7 : decode cX0_in 7 = .ok (.lload 4, 2) := dk_22 4 (dk_at dksX0_in_0 7 rfl rfl)
theorem dX0_in_9 : decode cX0_in 9 = .ok (.lcmp, 1) := dk_148 (dk_at dksX0_in_0 9 rfl rfl)
theorem dX0_in_10 : decode cX0_in 10 = .ok (.ifCond .gt 7, 3) := dk_157 0 7 (dk_at dksX0_in_0 10 rfl rfl)
theorem dX0_in_13 : decode cX0_in 13 = .ok (.iconst 1, 1) := dk_4 (dk_at dksX0_in_0 13 rfl rfl)
theorem dX0_in_14 : decode cX0_in 14 = .ok (.goto 4, 3) := dk_167 0 4 (dk_at dksX0_in_0 14 rfl rfl)
theorem dX0_in_17 : decode cX0_in 17 = .ok (.iconst 0, 1) := dk_3 (dk_at dksX0_in_0 17 rfl rfl)
theorem dX0_in_18 : decode cX0_in 18 = .ok (.ireturn, 1) := dk_172 (dk_at dksX0_in_0 18 rfl rfl)
abbrev cX0_readCheck : ByteArray := prog_1_method_19_code
def yX0_readCheck : MethodName := ⟨RX0, "readCheck", "()I"⟩
def dkwX0_readCheck_2 : List UInt8 := [62, 42, 3, 181, 0, 123, 29, 172, 58, 4, 42, 3, 181, 0, 123, 25, 4, 191]
abbrev dktX0_readCheck_2 : List UInt8 := dkwX0_readCheck_2 ++ []
def dkwX0_readCheck_1 : List UInt8 := [181, 0, 130, 43, 182, 0, 120, 44, 43, 180, 0, 134, 181, 0, 137, 42, 44, 181, 0, 73, 44, 180, 0, 137]
abbrev dktX0_readCheck_1 : List UInt8 := dkwX0_readCheck_1 ++ dktX0_readCheck_2
def dkwX0_readCheck_0 : List UInt8 := [187, 0, 111, 89, 42, 183, 0, 113, 76, 187, 0, 70, 89, 183, 0, 72, 77, 44, 43, 44, 3, 182, 0, 126]
abbrev dktX0_readCheck_0 : List UInt8 := dkwX0_readCheck_0 ++ dktX0_readCheck_1
theorem dksX0_readCheck_0 : cX0_readCheck.data.toList.drop 0 = dktX0_readCheck_0 := by decide +kernel
theorem dksX0_readCheck_1 : cX0_readCheck.data.toList.drop 24 = dktX0_readCheck_1 := dk_seg dksX0_readCheck_0 24 rfl rfl
theorem dksX0_readCheck_2 : cX0_readCheck.data.toList.drop 48 = dktX0_readCheck_2 := dk_seg dksX0_readCheck_1 24 rfl rfl
theorem dX0_readCheck_0 : decode cX0_readCheck 0 = .ok (.new 111, 3) := dk_187 0 111 (dk_at dksX0_readCheck_0 0 rfl rfl)
theorem dX0_readCheck_3 : decode cX0_readCheck 3 = .ok (.dup, 1) := dk_89 (dk_at dksX0_readCheck_0 3 rfl rfl)
theorem dX0_readCheck_4 : decode cX0_readCheck 4 = .ok (.aload_n 0, 1) := dk_42 (dk_at dksX0_readCheck_0 4 rfl rfl)
theorem dX0_readCheck_5 : decode cX0_readCheck 5 = .ok (.invokespecial 113, 3) := dk_183 0 113 (dk_at dksX0_readCheck_0 5 rfl rfl)
theorem dX0_readCheck_8 : decode cX0_readCheck 8 = .ok (.astore_n 1, 1) := dk_76 (dk_at dksX0_readCheck_0 8 rfl rfl)
theorem dX0_readCheck_9 : decode cX0_readCheck 9 = .ok (.new 70, 3) := dk_187 0 70 (dk_at dksX0_readCheck_0 9 rfl rfl)
theorem dX0_readCheck_12 : decode cX0_readCheck 12 = .ok (.dup, 1) := dk_89 (dk_at dksX0_readCheck_0 12 rfl rfl)
theorem dX0_readCheck_13 : decode cX0_readCheck 13 = .ok (.invokespecial 72, 3) := dk_183 0 72 (dk_at dksX0_readCheck_0 13 rfl rfl)
theorem dX0_readCheck_16 : decode cX0_readCheck 16 = .ok (.astore_n 2, 1) := dk_77 (dk_at dksX0_readCheck_0 16 rfl rfl)
theorem dX0_readCheck_17 : decode cX0_readCheck 17 = .ok (.aload_n 2, 1) := dk_44 (dk_at dksX0_readCheck_0 17 rfl rfl)
theorem dX0_readCheck_18 : decode cX0_readCheck 18 = .ok (.aload_n 1, 1) := dk_43 (dk_at dksX0_readCheck_0 18 rfl rfl)
theorem dX0_readCheck_19 : decode cX0_readCheck 19 = .ok (.aload_n 2, 1) := dk_44 (dk_at dksX0_readCheck_0 19 rfl rfl)
theorem dX0_readCheck_20 : decode cX0_readCheck 20 = .ok (.iconst 0, 1) := dk_3 (dk_at dksX0_readCheck_0 20 rfl rfl)
theorem dX0_readCheck_21 : decode cX0_readCheck 21 = .ok (.invokevirtual 126, 3) := dk_182 0 126 (dk_at dksX0_readCheck_0 21 rfl rfl)
theorem dX0_readCheck_24 : decode cX0_readCheck 24 = .ok (.putfield 130, 3) := dk_181 0 130 (dk_at dksX0_readCheck_1 0 rfl rfl)
theorem dX0_readCheck_27 : decode cX0_readCheck 27 = .ok (.aload_n 1, 1) := dk_43 (dk_at dksX0_readCheck_1 3 rfl rfl)
theorem dX0_readCheck_28 : decode cX0_readCheck 28 = .ok (.invokevirtual 120, 3) := dk_182 0 120 (dk_at dksX0_readCheck_1 4 rfl rfl)
theorem dX0_readCheck_31 : decode cX0_readCheck 31 = .ok (.aload_n 2, 1) := dk_44 (dk_at dksX0_readCheck_1 7 rfl rfl)
theorem dX0_readCheck_32 : decode cX0_readCheck 32 = .ok (.aload_n 1, 1) := dk_43 (dk_at dksX0_readCheck_1 8 rfl rfl)
theorem dX0_readCheck_33 : decode cX0_readCheck 33 = .ok (.getfield 134, 3) := dk_180 0 134 (dk_at dksX0_readCheck_1 9 rfl rfl)
theorem dX0_readCheck_36 : decode cX0_readCheck 36 = .ok (.putfield 137, 3) := dk_181 0 137 (dk_at dksX0_readCheck_1 12 rfl rfl)
theorem dX0_readCheck_39 : decode cX0_readCheck 39 = .ok (.aload_n 0, 1) := dk_42 (dk_at dksX0_readCheck_1 15 rfl rfl)
theorem dX0_readCheck_40 : decode cX0_readCheck 40 = .ok (.aload_n 2, 1) := dk_44 (dk_at dksX0_readCheck_1 16 rfl rfl)
theorem dX0_readCheck_41 : decode cX0_readCheck 41 = .ok (.putfield 73, 3) := dk_181 0 73 (dk_at dksX0_readCheck_1 17 rfl rfl)
theorem dX0_readCheck_44 : decode cX0_readCheck 44 = .ok (.aload_n 2, 1) := dk_44 (dk_at dksX0_readCheck_1 20 rfl rfl)
theorem dX0_readCheck_45 : decode cX0_readCheck 45 = .ok (.getfield 137, 3) := dk_180 0 137 (dk_at dksX0_readCheck_1 21 rfl rfl)
theorem dX0_readCheck_48 : decode cX0_readCheck 48 = .ok (.istore_n 3, 1) := dk_62 (dk_at dksX0_readCheck_2 0 rfl rfl)
theorem dX0_readCheck_49 : decode cX0_readCheck 49 = .ok (.aload_n 0, 1) := dk_42 (dk_at dksX0_readCheck_2 1 rfl rfl)
theorem dX0_readCheck_50 : decode cX0_readCheck 50 = .ok (.iconst 0, 1) := dk_3 (dk_at dksX0_readCheck_2 2 rfl rfl)
theorem dX0_readCheck_51 : decode cX0_readCheck 51 = .ok (.putfield 123, 3) := dk_181 0 123 (dk_at dksX0_readCheck_2 3 rfl rfl)
theorem dX0_readCheck_54 : decode cX0_readCheck 54 = .ok (.iload_n 3, 1) := dk_29 (dk_at dksX0_readCheck_2 6 rfl rfl)
theorem dX0_readCheck_55 : decode cX0_readCheck 55 = .ok (.ireturn, 1) := dk_172 (dk_at dksX0_readCheck_2 7 rfl rfl)
theorem dX0_readCheck_56 : decode cX0_readCheck 56 = .ok (.astore 4, 2) := dk_58 4 (dk_at dksX0_readCheck_2 8 rfl rfl)
theorem dX0_readCheck_58 : decode cX0_readCheck 58 = .ok (.aload_n 0, 1) := dk_42 (dk_at dksX0_readCheck_2 10 rfl rfl)
theorem dX0_readCheck_59 : decode cX0_readCheck 59 = .ok (.iconst 0, 1) := dk_3 (dk_at dksX0_readCheck_2 11 rfl rfl)
theorem dX0_readCheck_60 : decode cX0_readCheck 60 = .ok (.putfield 123, 3) := dk_181 0 123 (dk_at dksX0_readCheck_2 12 rfl rfl)
theorem dX0_readCheck_63 : decode cX0_readCheck 63 = .ok (.aload 4, 2) := dk_25 4 (dk_at dksX0_readCheck_2 15 rfl rfl)
theorem dX0_readCheck_65 : decode cX0_readCheck 65 = .ok (.athrow, 1) := dk_191 (dk_at dksX0_readCheck_2 17 rfl rfl)
abbrev cX0_numberLook : ByteArray := prog_1_method_11_code
def yX0_numberLook : MethodName := ⟨RX0, "numberLook", "(II)LGathersAllFaults$Look;"⟩
def dkwX0_numberLook_0 : List UInt8 := [26, 27, 186, 0, 33, 0, 0, 176]
abbrev dktX0_numberLook_0 : List UInt8 := dkwX0_numberLook_0 ++ []
theorem dksX0_numberLook_0 : cX0_numberLook.data.toList.drop 0 = dktX0_numberLook_0 := by decide +kernel
theorem dX0_numberLook_0 : decode cX0_numberLook 0 = .ok (.iload_n 0, 1) := dk_26 (dk_at dksX0_numberLook_0 0 rfl rfl)
theorem dX0_numberLook_1 : decode cX0_numberLook 1 = .ok (.iload_n 1, 1) := dk_27 (dk_at dksX0_numberLook_0 1 rfl rfl)
theorem dX0_numberLook_2 : decode cX0_numberLook 2 = .ok (.invokedynamic 33, 5) := by decide +kernel
theorem dX0_numberLook_7 : decode cX0_numberLook 7 = .ok (.areturn, 1) := dk_176 (dk_at dksX0_numberLook_0 7 rfl rfl)
abbrev cX0_lambda_numberLook_0 : ByteArray := prog_1_method_99_code
def yX0_lambda_numberLook_0 : MethodName := ⟨RX0, "lambda$numberLook$0", "(IILGathersAllFaults$Value;ILGathersAllFaults$Finding;)V"⟩
def dkwX0_lambda_numberLook_0_2 : List UInt8 := [180, 0, 50, 26, 162, 0, 7, 5, 167, 0, 4, 6, 182, 1, 238, 177]
abbrev dktX0_lambda_numberLook_0_2 : List UInt8 := dkwX0_lambda_numberLook_0_2 ++ []
def dkwX0_lambda_numberLook_0_1 : List UInt8 := [167, 0, 39, 25, 5, 180, 0, 50, 133, 26, 133, 27, 133, 184, 0, 13, 154, 0, 23, 25, 4, 29, 25, 5]
abbrev dktX0_lambda_numberLook_0_1 : List UInt8 := dkwX0_lambda_numberLook_0_1 ++ dktX0_lambda_numberLook_0_2
def dkwX0_lambda_numberLook_0_0 : List UInt8 := [44, 193, 0, 48, 153, 0, 12, 44, 192, 0, 48, 58, 5, 167, 0, 13, 25, 4, 29, 4, 182, 1, 238]
abbrev dktX0_lambda_numberLook_0_0 : List UInt8 := dkwX0_lambda_numberLook_0_0 ++ dktX0_lambda_numberLook_0_1
theorem dksX0_lambda_numberLook_0_0 : cX0_lambda_numberLook_0.data.toList.drop 0 = dktX0_lambda_numberLook_0_0 := by decide +kernel
theorem dksX0_lambda_numberLook_0_1 : cX0_lambda_numberLook_0.data.toList.drop 23 = dktX0_lambda_numberLook_0_1 := dk_seg dksX0_lambda_numberLook_0_0 23 rfl rfl
theorem dksX0_lambda_numberLook_0_2 : cX0_lambda_numberLook_0.data.toList.drop 47 = dktX0_lambda_numberLook_0_2 := dk_seg dksX0_lambda_numberLook_0_1 24 rfl rfl
theorem dX0_lambda_numberLook_0_0 : decode cX0_lambda_numberLook_0 0 = .ok (.aload_n 2, 1) := dk_44 (dk_at dksX0_lambda_numberLook_0_0 0 rfl rfl)
theorem dX0_lambda_numberLook_0_1 : decode cX0_lambda_numberLook_0 1 = .ok (.instanceof 48, 3) := dk_193 0 48 (dk_at dksX0_lambda_numberLook_0_0 1 rfl rfl)
theorem dX0_lambda_numberLook_0_4 : decode cX0_lambda_numberLook_0 4 = .ok (.ifCond .eq 12, 3) := dk_153 0 12 (dk_at dksX0_lambda_numberLook_0_0 4 rfl rfl)
theorem dX0_lambda_numberLook_0_7 : decode cX0_lambda_numberLook_0 7 = .ok (.aload_n 2, 1) := dk_44 (dk_at dksX0_lambda_numberLook_0_0 7 rfl rfl)
theorem dX0_lambda_numberLook_0_8 : decode cX0_lambda_numberLook_0 8 = .ok (.checkcast 48, 3) := dk_192 0 48 (dk_at dksX0_lambda_numberLook_0_0 8 rfl rfl)
theorem dX0_lambda_numberLook_0_11 : decode cX0_lambda_numberLook_0 11 = .ok (.astore 5, 2) := dk_58 5 (dk_at dksX0_lambda_numberLook_0_0 11 rfl rfl)
theorem dX0_lambda_numberLook_0_13 : decode cX0_lambda_numberLook_0 13 = .ok (.goto 13, 3) := dk_167 0 13 (dk_at dksX0_lambda_numberLook_0_0 13 rfl rfl)
theorem dX0_lambda_numberLook_0_16 : decode cX0_lambda_numberLook_0 16 = .ok (.aload 4, 2) := dk_25 4 (dk_at dksX0_lambda_numberLook_0_0 16 rfl rfl)
theorem dX0_lambda_numberLook_0_18 : decode cX0_lambda_numberLook_0 18 = .ok (.iload_n 3, 1) := dk_29 (dk_at dksX0_lambda_numberLook_0_0 18 rfl rfl)
theorem dX0_lambda_numberLook_0_19 : decode cX0_lambda_numberLook_0 19 = .ok (.iconst 1, 1) := dk_4 (dk_at dksX0_lambda_numberLook_0_0 19 rfl rfl)
theorem dX0_lambda_numberLook_0_20 : decode cX0_lambda_numberLook_0 20 = .ok (.invokevirtual 494, 3) := dk_182 1 238 (dk_at dksX0_lambda_numberLook_0_0 20 rfl rfl)
theorem dX0_lambda_numberLook_0_23 : decode cX0_lambda_numberLook_0 23 = .ok (.goto 39, 3) := dk_167 0 39 (dk_at dksX0_lambda_numberLook_0_1 0 rfl rfl)
theorem dX0_lambda_numberLook_0_26 : decode cX0_lambda_numberLook_0 26 = .ok (.aload 5, 2) := dk_25 5 (dk_at dksX0_lambda_numberLook_0_1 3 rfl rfl)
theorem dX0_lambda_numberLook_0_28 : decode cX0_lambda_numberLook_0 28 = .ok (.getfield 50, 3) := dk_180 0 50 (dk_at dksX0_lambda_numberLook_0_1 5 rfl rfl)
theorem dX0_lambda_numberLook_0_31 : decode cX0_lambda_numberLook_0 31 = .ok (.i2l, 1) := dk_133 (dk_at dksX0_lambda_numberLook_0_1 8 rfl rfl)
theorem dX0_lambda_numberLook_0_32 : decode cX0_lambda_numberLook_0 32 = .ok (.iload_n 0, 1) := dk_26 (dk_at dksX0_lambda_numberLook_0_1 9 rfl rfl)
theorem dX0_lambda_numberLook_0_33 : decode cX0_lambda_numberLook_0 33 = .ok (.i2l, 1) := dk_133 (dk_at dksX0_lambda_numberLook_0_1 10 rfl rfl)
theorem dX0_lambda_numberLook_0_34 : decode cX0_lambda_numberLook_0 34 = .ok (.iload_n 1, 1) := dk_27 (dk_at dksX0_lambda_numberLook_0_1 11 rfl rfl)
theorem dX0_lambda_numberLook_0_35 : decode cX0_lambda_numberLook_0 35 = .ok (.i2l, 1) := dk_133 (dk_at dksX0_lambda_numberLook_0_1 12 rfl rfl)
theorem dX0_lambda_numberLook_0_36 : decode cX0_lambda_numberLook_0 36 = .ok (.invokestatic 13, 3) := dk_184 0 13 (dk_at dksX0_lambda_numberLook_0_1 13 rfl rfl)
theorem dX0_lambda_numberLook_0_39 : decode cX0_lambda_numberLook_0 39 = .ok (.ifCond .ne 23, 3) := dk_154 0 23 (dk_at dksX0_lambda_numberLook_0_1 16 rfl rfl)
theorem dX0_lambda_numberLook_0_42 : decode cX0_lambda_numberLook_0 42 = .ok (.aload 4, 2) := dk_25 4 (dk_at dksX0_lambda_numberLook_0_1 19 rfl rfl)
theorem dX0_lambda_numberLook_0_44 : decode cX0_lambda_numberLook_0 44 = .ok (.iload_n 3, 1) := dk_29 (dk_at dksX0_lambda_numberLook_0_1 21 rfl rfl)
theorem dX0_lambda_numberLook_0_45 : decode cX0_lambda_numberLook_0 45 = .ok (.aload 5, 2) := dk_25 5 (dk_at dksX0_lambda_numberLook_0_1 22 rfl rfl)
theorem dX0_lambda_numberLook_0_47 : decode cX0_lambda_numberLook_0 47 = .ok (.getfield 50, 3) := dk_180 0 50 (dk_at dksX0_lambda_numberLook_0_2 0 rfl rfl)
theorem dX0_lambda_numberLook_0_50 : decode cX0_lambda_numberLook_0 50 = .ok (.iload_n 0, 1) := dk_26 (dk_at dksX0_lambda_numberLook_0_2 3 rfl rfl)
theorem dX0_lambda_numberLook_0_51 : decode cX0_lambda_numberLook_0 51 = .ok (.if_icmp .ge 7, 3) := dk_162 0 7 (dk_at dksX0_lambda_numberLook_0_2 4 rfl rfl)
theorem dX0_lambda_numberLook_0_54 : decode cX0_lambda_numberLook_0 54 = .ok (.iconst 2, 1) := dk_5 (dk_at dksX0_lambda_numberLook_0_2 7 rfl rfl)
theorem dX0_lambda_numberLook_0_55 : decode cX0_lambda_numberLook_0 55 = .ok (.goto 4, 3) := dk_167 0 4 (dk_at dksX0_lambda_numberLook_0_2 8 rfl rfl)
theorem dX0_lambda_numberLook_0_58 : decode cX0_lambda_numberLook_0 58 = .ok (.iconst 3, 1) := dk_6 (dk_at dksX0_lambda_numberLook_0_2 11 rfl rfl)
theorem dX0_lambda_numberLook_0_59 : decode cX0_lambda_numberLook_0 59 = .ok (.invokevirtual 494, 3) := dk_182 1 238 (dk_at dksX0_lambda_numberLook_0_2 12 rfl rfl)
theorem dX0_lambda_numberLook_0_62 : decode cX0_lambda_numberLook_0 62 = .ok (.return_, 1) := dk_177 (dk_at dksX0_lambda_numberLook_0_2 15 rfl rfl)
abbrev cX0_thereLook : ByteArray := prog_1_method_12_code
def yX0_thereLook : MethodName := ⟨RX0, "thereLook", "(ZLGathersAllFaults$Look;)LGathersAllFaults$Look;"⟩
def dkwX0_thereLook_0 : List UInt8 := [43, 26, 186, 0, 36, 0, 0, 176]
abbrev dktX0_thereLook_0 : List UInt8 := dkwX0_thereLook_0 ++ []
theorem dksX0_thereLook_0 : cX0_thereLook.data.toList.drop 0 = dktX0_thereLook_0 := by decide +kernel
theorem dX0_thereLook_0 : decode cX0_thereLook 0 = .ok (.aload_n 1, 1) := dk_43 (dk_at dksX0_thereLook_0 0 rfl rfl)
theorem dX0_thereLook_1 : decode cX0_thereLook 1 = .ok (.iload_n 0, 1) := dk_26 (dk_at dksX0_thereLook_0 1 rfl rfl)
theorem dX0_thereLook_2 : decode cX0_thereLook 2 = .ok (.invokedynamic 36, 5) := by decide +kernel
theorem dX0_thereLook_7 : decode cX0_thereLook 7 = .ok (.areturn, 1) := dk_176 (dk_at dksX0_thereLook_0 7 rfl rfl)
abbrev cX0_lambda_thereLook_1 : ByteArray := prog_1_method_98_code
def yX0_lambda_thereLook_1 : MethodName := ⟨RX0, "lambda$thereLook$1", "(LGathersAllFaults$Look;ZLGathersAllFaults$Value;ILGathersAllFaults$Finding;)V"⟩
def dkwX0_lambda_thereLook_1_1 : List UInt8 := [25, 4, 29, 7, 182, 1, 238, 177]
abbrev dktX0_lambda_thereLook_1_1 : List UInt8 := dkwX0_lambda_thereLook_1_1 ++ []
def dkwX0_lambda_thereLook_1_0 : List UInt8 := [44, 193, 0, 93, 154, 0, 16, 42, 44, 29, 25, 4, 185, 0, 27, 4, 0, 167, 0, 14, 27, 153, 0, 10]
abbrev dktX0_lambda_thereLook_1_0 : List UInt8 := dkwX0_lambda_thereLook_1_0 ++ dktX0_lambda_thereLook_1_1
theorem dksX0_lambda_thereLook_1_0 : cX0_lambda_thereLook_1.data.toList.drop 0 = dktX0_lambda_thereLook_1_0 := by decide +kernel
theorem dksX0_lambda_thereLook_1_1 : cX0_lambda_thereLook_1.data.toList.drop 24 = dktX0_lambda_thereLook_1_1 := dk_seg dksX0_lambda_thereLook_1_0 24 rfl rfl
theorem dX0_lambda_thereLook_1_0 : decode cX0_lambda_thereLook_1 0 = .ok (.aload_n 2, 1) := dk_44 (dk_at dksX0_lambda_thereLook_1_0 0 rfl rfl)
theorem dX0_lambda_thereLook_1_1 : decode cX0_lambda_thereLook_1 1 = .ok (.instanceof 93, 3) := dk_193 0 93 (dk_at dksX0_lambda_thereLook_1_0 1 rfl rfl)
theorem dX0_lambda_thereLook_1_4 : decode cX0_lambda_thereLook_1 4 = .ok (.ifCond .ne 16, 3) := dk_154 0 16 (dk_at dksX0_lambda_thereLook_1_0 4 rfl rfl)
theorem dX0_lambda_thereLook_1_7 : decode cX0_lambda_thereLook_1 7 = .ok (.aload_n 0, 1) := dk_42 (dk_at dksX0_lambda_thereLook_1_0 7 rfl rfl)
theorem dX0_lambda_thereLook_1_8 : decode cX0_lambda_thereLook_1 8 = .ok (.aload_n 2, 1) := dk_44 (dk_at dksX0_lambda_thereLook_1_0 8 rfl rfl)
theorem dX0_lambda_thereLook_1_9 : decode cX0_lambda_thereLook_1 9 = .ok (.iload_n 3, 1) := dk_29 (dk_at dksX0_lambda_thereLook_1_0 9 rfl rfl)
theorem dX0_lambda_thereLook_1_10 : decode cX0_lambda_thereLook_1 10 = .ok (.aload 4, 2) := dk_25 4 (dk_at dksX0_lambda_thereLook_1_0 10 rfl rfl)
theorem dX0_lambda_thereLook_1_12 : decode cX0_lambda_thereLook_1 12 = .ok (.invokeinterface 27 4, 5) := by decide +kernel
theorem dX0_lambda_thereLook_1_17 : decode cX0_lambda_thereLook_1 17 = .ok (.goto 14, 3) := dk_167 0 14 (dk_at dksX0_lambda_thereLook_1_0 17 rfl rfl)
theorem dX0_lambda_thereLook_1_20 : decode cX0_lambda_thereLook_1 20 = .ok (.iload_n 1, 1) := dk_27 (dk_at dksX0_lambda_thereLook_1_0 20 rfl rfl)
theorem dX0_lambda_thereLook_1_21 : decode cX0_lambda_thereLook_1 21 = .ok (.ifCond .eq 10, 3) := dk_153 0 10 (dk_at dksX0_lambda_thereLook_1_0 21 rfl rfl)
theorem dX0_lambda_thereLook_1_24 : decode cX0_lambda_thereLook_1 24 = .ok (.aload 4, 2) := dk_25 4 (dk_at dksX0_lambda_thereLook_1_1 0 rfl rfl)
theorem dX0_lambda_thereLook_1_26 : decode cX0_lambda_thereLook_1 26 = .ok (.iload_n 3, 1) := dk_29 (dk_at dksX0_lambda_thereLook_1_1 2 rfl rfl)
theorem dX0_lambda_thereLook_1_27 : decode cX0_lambda_thereLook_1 27 = .ok (.iconst 4, 1) := dk_7 (dk_at dksX0_lambda_thereLook_1_1 3 rfl rfl)
theorem dX0_lambda_thereLook_1_28 : decode cX0_lambda_thereLook_1 28 = .ok (.invokevirtual 494, 3) := dk_182 1 238 (dk_at dksX0_lambda_thereLook_1_1 4 rfl rfl)
theorem dX0_lambda_thereLook_1_31 : decode cX0_lambda_thereLook_1 31 = .ok (.return_, 1) := dk_177 (dk_at dksX0_lambda_thereLook_1_1 7 rfl rfl)
abbrev cX0_isLess : ByteArray := prog_1_method_16_code
def yX0_isLess : MethodName := ⟨RX0, "isLess", "(LGathersAllFaults$Value;LGathersAllFaults$Value;)Z"⟩
def dkwX0_isLess_2 : List UInt8 := [182, 0, 54, 162, 0, 7, 4, 167, 0, 4, 3, 172]
abbrev dktX0_isLess_2 : List UInt8 := dkwX0_isLess_2 ++ []
def dkwX0_isLess_1 : List UInt8 := [45, 180, 0, 50, 44, 180, 0, 50, 162, 0, 7, 4, 167, 0, 23, 3, 167, 0, 19, 42, 182, 0, 54, 43]
abbrev dktX0_isLess_1 : List UInt8 := dkwX0_isLess_1 ++ dktX0_isLess_2
def dkwX0_isLess_0 : List UInt8 := [42, 193, 0, 48, 153, 0, 39, 42, 192, 0, 48, 78, 43, 193, 0, 48, 153, 0, 27, 43, 192, 0, 48, 77]
abbrev dktX0_isLess_0 : List UInt8 := dkwX0_isLess_0 ++ dktX0_isLess_1
theorem dksX0_isLess_0 : cX0_isLess.data.toList.drop 0 = dktX0_isLess_0 := by decide +kernel
theorem dksX0_isLess_1 : cX0_isLess.data.toList.drop 24 = dktX0_isLess_1 := dk_seg dksX0_isLess_0 24 rfl rfl
theorem dksX0_isLess_2 : cX0_isLess.data.toList.drop 48 = dktX0_isLess_2 := dk_seg dksX0_isLess_1 24 rfl rfl
theorem dX0_isLess_0 : decode cX0_isLess 0 = .ok (.aload_n 0, 1) := dk_42 (dk_at dksX0_isLess_0 0 rfl rfl)
theorem dX0_isLess_1 : decode cX0_isLess 1 = .ok (.instanceof 48, 3) := dk_193 0 48 (dk_at dksX0_isLess_0 1 rfl rfl)
theorem dX0_isLess_4 : decode cX0_isLess 4 = .ok (.ifCond .eq 39, 3) := dk_153 0 39 (dk_at dksX0_isLess_0 4 rfl rfl)
theorem dX0_isLess_7 : decode cX0_isLess 7 = .ok (.aload_n 0, 1) := dk_42 (dk_at dksX0_isLess_0 7 rfl rfl)
theorem dX0_isLess_8 : decode cX0_isLess 8 = .ok (.checkcast 48, 3) := dk_192 0 48 (dk_at dksX0_isLess_0 8 rfl rfl)
theorem dX0_isLess_11 : decode cX0_isLess 11 = .ok (.astore_n 3, 1) := dk_78 (dk_at dksX0_isLess_0 11 rfl rfl)
theorem dX0_isLess_12 : decode cX0_isLess 12 = .ok (.aload_n 1, 1) := dk_43 (dk_at dksX0_isLess_0 12 rfl rfl)
theorem dX0_isLess_13 : decode cX0_isLess 13 = .ok (.instanceof 48, 3) := dk_193 0 48 (dk_at dksX0_isLess_0 13 rfl rfl)
theorem dX0_isLess_16 : decode cX0_isLess 16 = .ok (.ifCond .eq 27, 3) := dk_153 0 27 (dk_at dksX0_isLess_0 16 rfl rfl)
theorem dX0_isLess_19 : decode cX0_isLess 19 = .ok (.aload_n 1, 1) := dk_43 (dk_at dksX0_isLess_0 19 rfl rfl)
theorem dX0_isLess_20 : decode cX0_isLess 20 = .ok (.checkcast 48, 3) := dk_192 0 48 (dk_at dksX0_isLess_0 20 rfl rfl)
theorem dX0_isLess_23 : decode cX0_isLess 23 = .ok (.astore_n 2, 1) := dk_77 (dk_at dksX0_isLess_0 23 rfl rfl)
theorem dX0_isLess_24 : decode cX0_isLess 24 = .ok (.aload_n 3, 1) := dk_45 (dk_at dksX0_isLess_1 0 rfl rfl)
theorem dX0_isLess_25 : decode cX0_isLess 25 = .ok (.getfield 50, 3) := dk_180 0 50 (dk_at dksX0_isLess_1 1 rfl rfl)
theorem dX0_isLess_28 : decode cX0_isLess 28 = .ok (.aload_n 2, 1) := dk_44 (dk_at dksX0_isLess_1 4 rfl rfl)
theorem dX0_isLess_29 : decode cX0_isLess 29 = .ok (.getfield 50, 3) := dk_180 0 50 (dk_at dksX0_isLess_1 5 rfl rfl)
theorem dX0_isLess_32 : decode cX0_isLess 32 = .ok (.if_icmp .ge 7, 3) := dk_162 0 7 (dk_at dksX0_isLess_1 8 rfl rfl)
theorem dX0_isLess_35 : decode cX0_isLess 35 = .ok (.iconst 1, 1) := dk_4 (dk_at dksX0_isLess_1 11 rfl rfl)
theorem dX0_isLess_36 : decode cX0_isLess 36 = .ok (.goto 23, 3) := dk_167 0 23 (dk_at dksX0_isLess_1 12 rfl rfl)
theorem dX0_isLess_39 : decode cX0_isLess 39 = .ok (.iconst 0, 1) := dk_3 (dk_at dksX0_isLess_1 15 rfl rfl)
theorem dX0_isLess_40 : decode cX0_isLess 40 = .ok (.goto 19, 3) := dk_167 0 19 (dk_at dksX0_isLess_1 16 rfl rfl)
theorem dX0_isLess_43 : decode cX0_isLess 43 = .ok (.aload_n 0, 1) := dk_42 (dk_at dksX0_isLess_1 19 rfl rfl)
theorem dX0_isLess_44 : decode cX0_isLess 44 = .ok (.invokevirtual 54, 3) := dk_182 0 54 (dk_at dksX0_isLess_1 20 rfl rfl)
theorem dX0_isLess_47 : decode cX0_isLess 47 = .ok (.aload_n 1, 1) := dk_43 (dk_at dksX0_isLess_1 23 rfl rfl)
theorem dX0_isLess_48 : decode cX0_isLess 48 = .ok (.invokevirtual 54, 3) := dk_182 0 54 (dk_at dksX0_isLess_2 0 rfl rfl)
theorem dX0_isLess_51 : decode cX0_isLess 51 = .ok (.if_icmp .ge 7, 3) := dk_162 0 7 (dk_at dksX0_isLess_2 3 rfl rfl)
theorem dX0_isLess_54 : decode cX0_isLess 54 = .ok (.iconst 1, 1) := dk_4 (dk_at dksX0_isLess_2 6 rfl rfl)
theorem dX0_isLess_55 : decode cX0_isLess 55 = .ok (.goto 4, 3) := dk_167 0 4 (dk_at dksX0_isLess_2 7 rfl rfl)
theorem dX0_isLess_58 : decode cX0_isLess 58 = .ok (.iconst 0, 1) := dk_3 (dk_at dksX0_isLess_2 10 rfl rfl)
theorem dX0_isLess_59 : decode cX0_isLess 59 = .ok (.ireturn, 1) := dk_172 (dk_at dksX0_isLess_2 11 rfl rfl)
abbrev cX0_isBelow : ByteArray := prog_1_method_9_code
def yX0_isBelow : MethodName := ⟨RX0, "isBelow", "(II)Z"⟩
def dkwX0_isBelow_1 : List UInt8 := [3, 172]
abbrev dktX0_isBelow_1 : List UInt8 := dkwX0_isBelow_1 ++ []
def dkwX0_isBelow_0 : List UInt8 := [26, 61, 28, 27, 164, 0, 11, 28, 16, 10, 108, 61, 167, 255, 246, 28, 27, 160, 0, 7, 4, 167, 0, 4]
abbrev dktX0_isBelow_0 : List UInt8 := dkwX0_isBelow_0 ++ dktX0_isBelow_1
theorem dksX0_isBelow_0 : cX0_isBelow.data.toList.drop 0 = dktX0_isBelow_0 := by decide +kernel
theorem dksX0_isBelow_1 : cX0_isBelow.data.toList.drop 24 = dktX0_isBelow_1 := dk_seg dksX0_isBelow_0 24 rfl rfl
theorem dX0_isBelow_0 : decode cX0_isBelow 0 = .ok (.iload_n 0, 1) := dk_26 (dk_at dksX0_isBelow_0 0 rfl rfl)
theorem dX0_isBelow_1 : decode cX0_isBelow 1 = .ok (.istore_n 2, 1) := dk_61 (dk_at dksX0_isBelow_0 1 rfl rfl)
theorem dX0_isBelow_2 : decode cX0_isBelow 2 = .ok (.iload_n 2, 1) := dk_28 (dk_at dksX0_isBelow_0 2 rfl rfl)
theorem dX0_isBelow_3 : decode cX0_isBelow 3 = .ok (.iload_n 1, 1) := dk_27 (dk_at dksX0_isBelow_0 3 rfl rfl)
theorem dX0_isBelow_4 : decode cX0_isBelow 4 = .ok (.if_icmp .le 11, 3) := dk_164 0 11 (dk_at dksX0_isBelow_0 4 rfl rfl)
theorem dX0_isBelow_7 : decode cX0_isBelow 7 = .ok (.iload_n 2, 1) := dk_28 (dk_at dksX0_isBelow_0 7 rfl rfl)
theorem dX0_isBelow_8 : decode cX0_isBelow 8 = .ok (.bipush 10, 2) := dk_16 10 (dk_at dksX0_isBelow_0 8 rfl rfl)
theorem dX0_isBelow_10 : decode cX0_isBelow 10 = .ok (.idiv, 1) := dk_108 (dk_at dksX0_isBelow_0 10 rfl rfl)
theorem dX0_isBelow_11 : decode cX0_isBelow 11 = .ok (.istore_n 2, 1) := dk_61 (dk_at dksX0_isBelow_0 11 rfl rfl)
theorem dX0_isBelow_12 : decode cX0_isBelow 12 = .ok (.goto (-10), 3) := dk_167 255 246 (dk_at dksX0_isBelow_0 12 rfl rfl)
theorem dX0_isBelow_15 : decode cX0_isBelow 15 = .ok (.iload_n 2, 1) := dk_28 (dk_at dksX0_isBelow_0 15 rfl rfl)
theorem dX0_isBelow_16 : decode cX0_isBelow 16 = .ok (.iload_n 1, 1) := dk_27 (dk_at dksX0_isBelow_0 16 rfl rfl)
theorem dX0_isBelow_17 : decode cX0_isBelow 17 = .ok (.if_icmp .ne 7, 3) := dk_160 0 7 (dk_at dksX0_isBelow_0 17 rfl rfl)
theorem dX0_isBelow_20 : decode cX0_isBelow 20 = .ok (.iconst 1, 1) := dk_4 (dk_at dksX0_isBelow_0 20 rfl rfl)
theorem dX0_isBelow_21 : decode cX0_isBelow 21 = .ok (.goto 4, 3) := dk_167 0 4 (dk_at dksX0_isBelow_0 21 rfl rfl)
theorem dX0_isBelow_24 : decode cX0_isBelow 24 = .ok (.iconst 0, 1) := dk_3 (dk_at dksX0_isBelow_1 0 rfl rfl)
theorem dX0_isBelow_25 : decode cX0_isBelow 25 = .ok (.ireturn, 1) := dk_172 (dk_at dksX0_isBelow_1 1 rfl rfl)
abbrev cX0_listLook : ByteArray := prog_1_method_13_code
def yX0_listLook : MethodName := ⟨RX0, "listLook", "(IILGathersAllFaults$Look;)LGathersAllFaults$Look;"⟩
def dkwX0_listLook_0 : List UInt8 := [26, 27, 44, 186, 0, 39, 0, 0, 176]
abbrev dktX0_listLook_0 : List UInt8 := dkwX0_listLook_0 ++ []
theorem dksX0_listLook_0 : cX0_listLook.data.toList.drop 0 = dktX0_listLook_0 := by decide +kernel
theorem dX0_listLook_0 : decode cX0_listLook 0 = .ok (.iload_n 0, 1) := dk_26 (dk_at dksX0_listLook_0 0 rfl rfl)
theorem dX0_listLook_1 : decode cX0_listLook 1 = .ok (.iload_n 1, 1) := dk_27 (dk_at dksX0_listLook_0 1 rfl rfl)
theorem dX0_listLook_2 : decode cX0_listLook 2 = .ok (.aload_n 2, 1) := dk_44 (dk_at dksX0_listLook_0 2 rfl rfl)
theorem dX0_listLook_3 : decode cX0_listLook 3 = .ok (.invokedynamic 39, 5) := by decide +kernel
theorem dX0_listLook_8 : decode cX0_listLook 8 = .ok (.areturn, 1) := dk_176 (dk_at dksX0_listLook_0 8 rfl rfl)
abbrev cX0_lambda_listLook_2 : ByteArray := prog_1_method_97_code
def yX0_lambda_listLook_2 : MethodName := ⟨RX0, "lambda$listLook$2", "(IILGathersAllFaults$Look;LGathersAllFaults$Value;ILGathersAllFaults$Finding;)V"⟩
def dkwX0_lambda_listLook_2_4 : List UInt8 := [132, 7, 1, 167, 255, 215, 177]
abbrev dktX0_lambda_listLook_2_4 : List UInt8 := dkwX0_lambda_listLook_2_4 ++ []
def dkwX0_lambda_listLook_2_3 : List UInt8 := [21, 7, 50, 16, 10, 21, 4, 104, 4, 96, 8, 96, 21, 7, 96, 25, 5, 185, 0, 27, 4, 0]
abbrev dktX0_lambda_listLook_2_3 : List UInt8 := dkwX0_lambda_listLook_2_3 ++ dktX0_lambda_listLook_2_4
def dkwX0_lambda_listLook_2_2 : List UInt8 := [16, 11, 182, 1, 238, 3, 54, 7, 21, 7, 25, 6, 182, 1, 69, 162, 0, 37, 44, 25, 6, 180, 0, 215]
abbrev dktX0_lambda_listLook_2_2 : List UInt8 := dkwX0_lambda_listLook_2_2 ++ dktX0_lambda_listLook_2_3
def dkwX0_lambda_listLook_2_1 : List UInt8 := [182, 1, 238, 177, 25, 6, 182, 1, 69, 133, 26, 133, 27, 133, 184, 0, 13, 154, 0, 12, 25, 5, 21, 4]
abbrev dktX0_lambda_listLook_2_1 : List UInt8 := dkwX0_lambda_listLook_2_1 ++ dktX0_lambda_listLook_2_2
def dkwX0_lambda_listLook_2_0 : List UInt8 := [45, 193, 0, 213, 153, 0, 12, 45, 192, 0, 213, 58, 6, 167, 0, 13, 25, 5, 21, 4, 16, 10]
abbrev dktX0_lambda_listLook_2_0 : List UInt8 := dkwX0_lambda_listLook_2_0 ++ dktX0_lambda_listLook_2_1
theorem dksX0_lambda_listLook_2_0 : cX0_lambda_listLook_2.data.toList.drop 0 = dktX0_lambda_listLook_2_0 := by decide +kernel
theorem dksX0_lambda_listLook_2_1 : cX0_lambda_listLook_2.data.toList.drop 22 = dktX0_lambda_listLook_2_1 := dk_seg dksX0_lambda_listLook_2_0 22 rfl rfl
theorem dksX0_lambda_listLook_2_2 : cX0_lambda_listLook_2.data.toList.drop 46 = dktX0_lambda_listLook_2_2 := dk_seg dksX0_lambda_listLook_2_1 24 rfl rfl
theorem dksX0_lambda_listLook_2_3 : cX0_lambda_listLook_2.data.toList.drop 70 = dktX0_lambda_listLook_2_3 := dk_seg dksX0_lambda_listLook_2_2 24 rfl rfl
theorem dksX0_lambda_listLook_2_4 : cX0_lambda_listLook_2.data.toList.drop 92 = dktX0_lambda_listLook_2_4 := dk_seg dksX0_lambda_listLook_2_3 22 rfl rfl
theorem dX0_lambda_listLook_2_0 : decode cX0_lambda_listLook_2 0 = .ok (.aload_n 3, 1) := dk_45 (dk_at dksX0_lambda_listLook_2_0 0 rfl rfl)
theorem dX0_lambda_listLook_2_1 : decode cX0_lambda_listLook_2 1 = .ok (.instanceof 213, 3) := dk_193 0 213 (dk_at dksX0_lambda_listLook_2_0 1 rfl rfl)
theorem dX0_lambda_listLook_2_4 : decode cX0_lambda_listLook_2 4 = .ok (.ifCond .eq 12, 3) := dk_153 0 12 (dk_at dksX0_lambda_listLook_2_0 4 rfl rfl)
theorem dX0_lambda_listLook_2_7 : decode cX0_lambda_listLook_2 7 = .ok (.aload_n 3, 1) := dk_45 (dk_at dksX0_lambda_listLook_2_0 7 rfl rfl)
theorem dX0_lambda_listLook_2_8 : decode cX0_lambda_listLook_2 8 = .ok (.checkcast 213, 3) := dk_192 0 213 (dk_at dksX0_lambda_listLook_2_0 8 rfl rfl)
theorem dX0_lambda_listLook_2_11 : decode cX0_lambda_listLook_2 11 = .ok (.astore 6, 2) := dk_58 6 (dk_at dksX0_lambda_listLook_2_0 11 rfl rfl)
theorem dX0_lambda_listLook_2_13 : decode cX0_lambda_listLook_2 13 = .ok (.goto 13, 3) := dk_167 0 13 (dk_at dksX0_lambda_listLook_2_0 13 rfl rfl)
theorem dX0_lambda_listLook_2_16 : decode cX0_lambda_listLook_2 16 = .ok (.aload 5, 2) := dk_25 5 (dk_at dksX0_lambda_listLook_2_0 16 rfl rfl)
theorem dX0_lambda_listLook_2_18 : decode cX0_lambda_listLook_2 18 = .ok (.iload 4, 2) := dk_21 4 (dk_at dksX0_lambda_listLook_2_0 18 rfl rfl)
theorem dX0_lambda_listLook_2_20 : decode cX0_lambda_listLook_2 20 = .ok (.bipush 10, 2) := dk_16 10 (dk_at dksX0_lambda_listLook_2_0 20 rfl rfl)
theorem dX0_lambda_listLook_2_22 : decode cX0_lambda_listLook_2 22 = .ok (.invokevirtual 494, 3) := dk_182 1 238 (dk_at dksX0_lambda_listLook_2_1 0 rfl rfl)
theorem dX0_lambda_listLook_2_25 : decode cX0_lambda_listLook_2 25 = .ok (.return_, 1) := dk_177 (dk_at dksX0_lambda_listLook_2_1 3 rfl rfl)
theorem dX0_lambda_listLook_2_26 : decode cX0_lambda_listLook_2 26 = .ok (.aload 6, 2) := dk_25 6 (dk_at dksX0_lambda_listLook_2_1 4 rfl rfl)
theorem dX0_lambda_listLook_2_28 : decode cX0_lambda_listLook_2 28 = .ok (.invokevirtual 325, 3) := dk_182 1 69 (dk_at dksX0_lambda_listLook_2_1 6 rfl rfl)
theorem dX0_lambda_listLook_2_31 : decode cX0_lambda_listLook_2 31 = .ok (.i2l, 1) := dk_133 (dk_at dksX0_lambda_listLook_2_1 9 rfl rfl)
theorem dX0_lambda_listLook_2_32 : decode cX0_lambda_listLook_2 32 = .ok (.iload_n 0, 1) := dk_26 (dk_at dksX0_lambda_listLook_2_1 10 rfl rfl)
theorem dX0_lambda_listLook_2_33 : decode cX0_lambda_listLook_2 33 = .ok (.i2l, 1) := dk_133 (dk_at dksX0_lambda_listLook_2_1 11 rfl rfl)
theorem dX0_lambda_listLook_2_34 : decode cX0_lambda_listLook_2 34 = .ok (.iload_n 1, 1) := dk_27 (dk_at dksX0_lambda_listLook_2_1 12 rfl rfl)
theorem dX0_lambda_listLook_2_35 : decode cX0_lambda_listLook_2 35 = .ok (.i2l, 1) := dk_133 (dk_at dksX0_lambda_listLook_2_1 13 rfl rfl)
theorem dX0_lambda_listLook_2_36 : decode cX0_lambda_listLook_2 36 = .ok (.invokestatic 13, 3) := dk_184 0 13 (dk_at dksX0_lambda_listLook_2_1 14 rfl rfl)
theorem dX0_lambda_listLook_2_39 : decode cX0_lambda_listLook_2 39 = .ok (.ifCond .ne 12, 3) := dk_154 0 12 (dk_at dksX0_lambda_listLook_2_1 17 rfl rfl)
theorem dX0_lambda_listLook_2_42 : decode cX0_lambda_listLook_2 42 = .ok (.aload 5, 2) := dk_25 5 (dk_at dksX0_lambda_listLook_2_1 20 rfl rfl)
theorem dX0_lambda_listLook_2_44 : decode cX0_lambda_listLook_2 44 = .ok (.iload 4, 2) := dk_21 4 (dk_at dksX0_lambda_listLook_2_1 22 rfl rfl)
theorem dX0_lambda_listLook_2_46 : decode cX0_lambda_listLook_2 46 = .ok (.bipush 11, 2) := dk_16 11 (dk_at dksX0_lambda_listLook_2_2 0 rfl rfl)
theorem dX0_lambda_listLook_2_48 : decode cX0_lambda_listLook_2 48 = .ok (.invokevirtual 494, 3) := dk_182 1 238 (dk_at dksX0_lambda_listLook_2_2 2 rfl rfl)
theorem dX0_lambda_listLook_2_51 : decode cX0_lambda_listLook_2 51 = .ok (.iconst 0, 1) := dk_3 (dk_at dksX0_lambda_listLook_2_2 5 rfl rfl)
theorem dX0_lambda_listLook_2_52 : decode cX0_lambda_listLook_2 52 = .ok (.istore 7, 2) := dk_54 7 (dk_at dksX0_lambda_listLook_2_2 6 rfl rfl)
theorem dX0_lambda_listLook_2_54 : decode cX0_lambda_listLook_2 54 = .ok (.iload 7, 2) := dk_21 7 (dk_at dksX0_lambda_listLook_2_2 8 rfl rfl)
theorem dX0_lambda_listLook_2_56 : decode cX0_lambda_listLook_2 56 = .ok (.aload 6, 2) := dk_25 6 (dk_at dksX0_lambda_listLook_2_2 10 rfl rfl)
theorem dX0_lambda_listLook_2_58 : decode cX0_lambda_listLook_2 58 = .ok (.invokevirtual 325, 3) := dk_182 1 69 (dk_at dksX0_lambda_listLook_2_2 12 rfl rfl)
theorem dX0_lambda_listLook_2_61 : decode cX0_lambda_listLook_2 61 = .ok (.if_icmp .ge 37, 3) := dk_162 0 37 (dk_at dksX0_lambda_listLook_2_2 15 rfl rfl)
theorem dX0_lambda_listLook_2_64 : decode cX0_lambda_listLook_2 64 = .ok (.aload_n 2, 1) := dk_44 (dk_at dksX0_lambda_listLook_2_2 18 rfl rfl)
theorem dX0_lambda_listLook_2_65 : decode cX0_lambda_listLook_2 65 = .ok (.aload 6, 2) := dk_25 6 (dk_at dksX0_lambda_listLook_2_2 19 rfl rfl)
theorem dX0_lambda_listLook_2_67 : decode cX0_lambda_listLook_2 67 = .ok (.getfield 215, 3) := dk_180 0 215 (dk_at dksX0_lambda_listLook_2_2 21 rfl rfl)
theorem dX0_lambda_listLook_2_70 : decode cX0_lambda_listLook_2 70 = .ok (.iload 7, 2) := dk_21 7 (dk_at dksX0_lambda_listLook_2_3 0 rfl rfl)
theorem dX0_lambda_listLook_2_72 : decode cX0_lambda_listLook_2 72 = .ok (.aaload, 1) := dk_50 (dk_at dksX0_lambda_listLook_2_3 2 rfl rfl)
theorem dX0_lambda_listLook_2_73 : decode cX0_lambda_listLook_2 73 = .ok (.bipush 10, 2) := dk_16 10 (dk_at dksX0_lambda_listLook_2_3 3 rfl rfl)
theorem dX0_lambda_listLook_2_75 : decode cX0_lambda_listLook_2 75 = .ok (.iload 4, 2) := dk_21 4 (dk_at dksX0_lambda_listLook_2_3 5 rfl rfl)
theorem dX0_lambda_listLook_2_77 : decode cX0_lambda_listLook_2 77 = .ok (.imul, 1) := dk_104 (dk_at dksX0_lambda_listLook_2_3 7 rfl rfl)
theorem dX0_lambda_listLook_2_78 : decode cX0_lambda_listLook_2 78 = .ok (.iconst 1, 1) := dk_4 (dk_at dksX0_lambda_listLook_2_3 8 rfl rfl)
theorem dX0_lambda_listLook_2_79 : decode cX0_lambda_listLook_2 79 = .ok (.iadd, 1) := dk_96 (dk_at dksX0_lambda_listLook_2_3 9 rfl rfl)
theorem dX0_lambda_listLook_2_80 : decode cX0_lambda_listLook_2 80 = .ok (.iconst 5, 1) := dk_8 (dk_at dksX0_lambda_listLook_2_3 10 rfl rfl)
theorem dX0_lambda_listLook_2_81 : decode cX0_lambda_listLook_2 81 = .ok (.iadd, 1) := dk_96 (dk_at dksX0_lambda_listLook_2_3 11 rfl rfl)
theorem dX0_lambda_listLook_2_82 : decode cX0_lambda_listLook_2 82 = .ok (.iload 7, 2) := dk_21 7 (dk_at dksX0_lambda_listLook_2_3 12 rfl rfl)
theorem dX0_lambda_listLook_2_84 : decode cX0_lambda_listLook_2 84 = .ok (.iadd, 1) := dk_96 (dk_at dksX0_lambda_listLook_2_3 14 rfl rfl)
theorem dX0_lambda_listLook_2_85 : decode cX0_lambda_listLook_2 85 = .ok (.aload 5, 2) := dk_25 5 (dk_at dksX0_lambda_listLook_2_3 15 rfl rfl)
theorem dX0_lambda_listLook_2_87 : decode cX0_lambda_listLook_2 87 = .ok (.invokeinterface 27 4, 5) := by decide +kernel
theorem dX0_lambda_listLook_2_92 : decode cX0_lambda_listLook_2 92 = .ok (.iinc 7 1, 3) := dk_132 7 1 (dk_at dksX0_lambda_listLook_2_4 0 rfl rfl)
theorem dX0_lambda_listLook_2_95 : decode cX0_lambda_listLook_2 95 = .ok (.goto (-41), 3) := dk_167 255 215 (dk_at dksX0_lambda_listLook_2_4 3 rfl rfl)
theorem dX0_lambda_listLook_2_98 : decode cX0_lambda_listLook_2 98 = .ok (.return_, 1) := dk_177 (dk_at dksX0_lambda_listLook_2_4 6 rfl rfl)
abbrev cX0_onceLook : ByteArray := prog_1_method_14_code
def yX0_onceLook : MethodName := ⟨RX0, "onceLook", "(LGathersAllFaults$Look;)LGathersAllFaults$Look;"⟩
theorem dX0_onceLook_0 : decode cX0_onceLook 0 = .ok (.aload_n 0, 1) := by decide +kernel
theorem dX0_onceLook_1 : decode cX0_onceLook 1 = .ok (.invokedynamic 42, 5) := by decide +kernel
theorem dX0_onceLook_6 : decode cX0_onceLook 6 = .ok (.areturn, 1) := by decide +kernel
abbrev cX0_lambda_onceLook_3 : ByteArray := prog_1_method_96_code
def yX0_lambda_onceLook_3 : MethodName := ⟨RX0, "lambda$onceLook$3", "(LGathersAllFaults$Look;LGathersAllFaults$Value;ILGathersAllFaults$Finding;)V"⟩
def dkwX0_lambda_onceLook_3_4 : List UInt8 := [182, 1, 238, 132, 7, 1, 167, 255, 215, 45, 25, 5, 182, 1, 230, 180, 1, 219, 21, 4, 181, 1, 223, 177]
abbrev dktX0_lambda_onceLook_3_4 : List UInt8 := dkwX0_lambda_onceLook_3_4 ++ []
def dkwX0_lambda_onceLook_3_3 : List UInt8 := [21, 7, 182, 1, 234, 153, 0, 21, 25, 5, 16, 10, 28, 104, 4, 96, 8, 96, 21, 7, 96, 16, 12]
abbrev dktX0_lambda_onceLook_3_3 : List UInt8 := dkwX0_lambda_onceLook_3_3 ++ dktX0_lambda_onceLook_3_4
def dkwX0_lambda_onceLook_3_2 : List UInt8 := [153, 0, 56, 43, 192, 0, 213, 58, 6, 3, 54, 7, 21, 7, 25, 6, 182, 1, 69, 162, 0, 37, 25, 6]
abbrev dktX0_lambda_onceLook_3_2 : List UInt8 := dkwX0_lambda_onceLook_3_2 ++ dktX0_lambda_onceLook_3_3
def dkwX0_lambda_onceLook_3_1 : List UInt8 := [182, 1, 37, 154, 0, 17, 25, 5, 89, 180, 1, 128, 4, 96, 181, 1, 128, 167, 0, 63, 43, 193, 0, 213]
abbrev dktX0_lambda_onceLook_3_1 : List UInt8 := dkwX0_lambda_onceLook_3_1 ++ dktX0_lambda_onceLook_3_2
def dkwX0_lambda_onceLook_3_0 : List UInt8 := [45, 180, 1, 219, 180, 1, 223, 54, 4, 42, 43, 28, 45, 180, 1, 219, 184, 1, 226, 58, 5, 25, 5]
abbrev dktX0_lambda_onceLook_3_0 : List UInt8 := dkwX0_lambda_onceLook_3_0 ++ dktX0_lambda_onceLook_3_1
theorem dksX0_lambda_onceLook_3_0 : cX0_lambda_onceLook_3.data.toList.drop 0 = dktX0_lambda_onceLook_3_0 := by decide +kernel
theorem dksX0_lambda_onceLook_3_1 : cX0_lambda_onceLook_3.data.toList.drop 23 = dktX0_lambda_onceLook_3_1 := dk_seg dksX0_lambda_onceLook_3_0 23 rfl rfl
theorem dksX0_lambda_onceLook_3_2 : cX0_lambda_onceLook_3.data.toList.drop 47 = dktX0_lambda_onceLook_3_2 := dk_seg dksX0_lambda_onceLook_3_1 24 rfl rfl
theorem dksX0_lambda_onceLook_3_3 : cX0_lambda_onceLook_3.data.toList.drop 71 = dktX0_lambda_onceLook_3_3 := dk_seg dksX0_lambda_onceLook_3_2 24 rfl rfl
theorem dksX0_lambda_onceLook_3_4 : cX0_lambda_onceLook_3.data.toList.drop 94 = dktX0_lambda_onceLook_3_4 := dk_seg dksX0_lambda_onceLook_3_3 23 rfl rfl
theorem dX0_lambda_onceLook_3_0 : decode cX0_lambda_onceLook_3 0 = .ok (.aload_n 3, 1) := dk_45 (dk_at dksX0_lambda_onceLook_3_0 0 rfl rfl)
theorem dX0_lambda_onceLook_3_1 : decode cX0_lambda_onceLook_3 1 = .ok (.getfield 475, 3) := dk_180 1 219 (dk_at dksX0_lambda_onceLook_3_0 1 rfl rfl)
theorem dX0_lambda_onceLook_3_4 : decode cX0_lambda_onceLook_3 4 = .ok (.getfield 479, 3) := dk_180 1 223 (dk_at dksX0_lambda_onceLook_3_0 4 rfl rfl)
theorem dX0_lambda_onceLook_3_7 : decode cX0_lambda_onceLook_3 7 = .ok (.istore 4, 2) := dk_54 4 (dk_at dksX0_lambda_onceLook_3_0 7 rfl rfl)
theorem dX0_lambda_onceLook_3_9 : decode cX0_lambda_onceLook_3 9 = .ok (.aload_n 0, 1) := dk_42 (dk_at dksX0_lambda_onceLook_3_0 9 rfl rfl)
theorem dX0_lambda_onceLook_3_10 : decode cX0_lambda_onceLook_3 10 = .ok (.aload_n 1, 1) := dk_43 (dk_at dksX0_lambda_onceLook_3_0 10 rfl rfl)
theorem dX0_lambda_onceLook_3_11 : decode cX0_lambda_onceLook_3 11 = .ok (.iload_n 2, 1) := dk_28 (dk_at dksX0_lambda_onceLook_3_0 11 rfl rfl)
theorem dX0_lambda_onceLook_3_12 : decode cX0_lambda_onceLook_3 12 = .ok (.aload_n 3, 1) := dk_45 (dk_at dksX0_lambda_onceLook_3_0 12 rfl rfl)
theorem dX0_lambda_onceLook_3_13 : decode cX0_lambda_onceLook_3 13 = .ok (.getfield 475, 3) := dk_180 1 219 (dk_at dksX0_lambda_onceLook_3_0 13 rfl rfl)
theorem dX0_lambda_onceLook_3_16 : decode cX0_lambda_onceLook_3 16 = .ok (.invokestatic 482, 3) := dk_184 1 226 (dk_at dksX0_lambda_onceLook_3_0 16 rfl rfl)
theorem dX0_lambda_onceLook_3_19 : decode cX0_lambda_onceLook_3 19 = .ok (.astore 5, 2) := dk_58 5 (dk_at dksX0_lambda_onceLook_3_0 19 rfl rfl)
theorem dX0_lambda_onceLook_3_21 : decode cX0_lambda_onceLook_3 21 = .ok (.aload 5, 2) := dk_25 5 (dk_at dksX0_lambda_onceLook_3_0 21 rfl rfl)
theorem dX0_lambda_onceLook_3_23 : decode cX0_lambda_onceLook_3 23 = .ok (.invokevirtual 293, 3) := dk_182 1 37 (dk_at dksX0_lambda_onceLook_3_1 0 rfl rfl)
theorem dX0_lambda_onceLook_3_26 : decode cX0_lambda_onceLook_3 26 = .ok (.ifCond .ne 17, 3) := dk_154 0 17 (dk_at dksX0_lambda_onceLook_3_1 3 rfl rfl)
theorem dX0_lambda_onceLook_3_29 : decode cX0_lambda_onceLook_3 29 = .ok (.aload 5, 2) := dk_25 5 (dk_at dksX0_lambda_onceLook_3_1 6 rfl rfl)
theorem dX0_lambda_onceLook_3_31 : decode cX0_lambda_onceLook_3 31 = .ok (.dup, 1) := dk_89 (dk_at dksX0_lambda_onceLook_3_1 8 rfl rfl)
theorem dX0_lambda_onceLook_3_32 : decode cX0_lambda_onceLook_3 32 = .ok (.getfield 384, 3) := dk_180 1 128 (dk_at dksX0_lambda_onceLook_3_1 9 rfl rfl)
theorem dX0_lambda_onceLook_3_35 : decode cX0_lambda_onceLook_3 35 = .ok (.iconst 1, 1) := dk_4 (dk_at dksX0_lambda_onceLook_3_1 12 rfl rfl)
theorem dX0_lambda_onceLook_3_36 : decode cX0_lambda_onceLook_3 36 = .ok (.iadd, 1) := dk_96 (dk_at dksX0_lambda_onceLook_3_1 13 rfl rfl)
theorem dX0_lambda_onceLook_3_37 : decode cX0_lambda_onceLook_3 37 = .ok (.putfield 384, 3) := dk_181 1 128 (dk_at dksX0_lambda_onceLook_3_1 14 rfl rfl)
theorem dX0_lambda_onceLook_3_40 : decode cX0_lambda_onceLook_3 40 = .ok (.goto 63, 3) := dk_167 0 63 (dk_at dksX0_lambda_onceLook_3_1 17 rfl rfl)
theorem dX0_lambda_onceLook_3_43 : decode cX0_lambda_onceLook_3 43 = .ok (.aload_n 1, 1) := dk_43 (dk_at dksX0_lambda_onceLook_3_1 20 rfl rfl)
theorem dX0_lambda_onceLook_3_44 : decode cX0_lambda_onceLook_3 44 = .ok (.instanceof 213, 3) := dk_193 0 213 (dk_at dksX0_lambda_onceLook_3_1 21 rfl rfl)
theorem dX0_lambda_onceLook_3_47 : decode cX0_lambda_onceLook_3 47 = .ok (.ifCond .eq 56, 3) := dk_153 0 56 (dk_at dksX0_lambda_onceLook_3_2 0 rfl rfl)
theorem dX0_lambda_onceLook_3_50 : decode cX0_lambda_onceLook_3 50 = .ok (.aload_n 1, 1) := dk_43 (dk_at dksX0_lambda_onceLook_3_2 3 rfl rfl)
theorem dX0_lambda_onceLook_3_51 : decode cX0_lambda_onceLook_3 51 = .ok (.checkcast 213, 3) := dk_192 0 213 (dk_at dksX0_lambda_onceLook_3_2 4 rfl rfl)
theorem dX0_lambda_onceLook_3_54 : decode cX0_lambda_onceLook_3 54 = .ok (.astore 6, 2) := dk_58 6 (dk_at dksX0_lambda_onceLook_3_2 7 rfl rfl)
theorem dX0_lambda_onceLook_3_56 : decode cX0_lambda_onceLook_3 56 = .ok (.iconst 0, 1) := dk_3 (dk_at dksX0_lambda_onceLook_3_2 9 rfl rfl)
theorem dX0_lambda_onceLook_3_57 : decode cX0_lambda_onceLook_3 57 = .ok (.istore 7, 2) := dk_54 7 (dk_at dksX0_lambda_onceLook_3_2 10 rfl rfl)
theorem dX0_lambda_onceLook_3_59 : decode cX0_lambda_onceLook_3 59 = .ok (.iload 7, 2) := dk_21 7 (dk_at dksX0_lambda_onceLook_3_2 12 rfl rfl)
theorem dX0_lambda_onceLook_3_61 : decode cX0_lambda_onceLook_3 61 = .ok (.aload 6, 2) := dk_25 6 (dk_at dksX0_lambda_onceLook_3_2 14 rfl rfl)
theorem dX0_lambda_onceLook_3_63 : decode cX0_lambda_onceLook_3 63 = .ok (.invokevirtual 325, 3) := dk_182 1 69 (dk_at dksX0_lambda_onceLook_3_2 16 rfl rfl)
theorem dX0_lambda_onceLook_3_66 : decode cX0_lambda_onceLook_3 66 = .ok (.if_icmp .ge 37, 3) := dk_162 0 37 (dk_at dksX0_lambda_onceLook_3_2 19 rfl rfl)
theorem dX0_lambda_onceLook_3_69 : decode cX0_lambda_onceLook_3 69 = .ok (.aload 6, 2) := dk_25 6 (dk_at dksX0_lambda_onceLook_3_2 22 rfl rfl)
theorem dX0_lambda_onceLook_3_71 : decode cX0_lambda_onceLook_3 71 = .ok (.iload 7, 2) := dk_21 7 (dk_at dksX0_lambda_onceLook_3_3 0 rfl rfl)
theorem dX0_lambda_onceLook_3_73 : decode cX0_lambda_onceLook_3 73 = .ok (.invokevirtual 490, 3) := dk_182 1 234 (dk_at dksX0_lambda_onceLook_3_3 2 rfl rfl)
theorem dX0_lambda_onceLook_3_76 : decode cX0_lambda_onceLook_3 76 = .ok (.ifCond .eq 21, 3) := dk_153 0 21 (dk_at dksX0_lambda_onceLook_3_3 5 rfl rfl)
theorem dX0_lambda_onceLook_3_79 : decode cX0_lambda_onceLook_3 79 = .ok (.aload 5, 2) := dk_25 5 (dk_at dksX0_lambda_onceLook_3_3 8 rfl rfl)
theorem dX0_lambda_onceLook_3_81 : decode cX0_lambda_onceLook_3 81 = .ok (.bipush 10, 2) := dk_16 10 (dk_at dksX0_lambda_onceLook_3_3 10 rfl rfl)
theorem dX0_lambda_onceLook_3_83 : decode cX0_lambda_onceLook_3 83 = .ok (.iload_n 2, 1) := dk_28 (dk_at dksX0_lambda_onceLook_3_3 12 rfl rfl)
theorem dX0_lambda_onceLook_3_84 : decode cX0_lambda_onceLook_3 84 = .ok (.imul, 1) := dk_104 (dk_at dksX0_lambda_onceLook_3_3 13 rfl rfl)
theorem dX0_lambda_onceLook_3_85 : decode cX0_lambda_onceLook_3 85 = .ok (.iconst 1, 1) := dk_4 (dk_at dksX0_lambda_onceLook_3_3 14 rfl rfl)
theorem dX0_lambda_onceLook_3_86 : decode cX0_lambda_onceLook_3 86 = .ok (.iadd, 1) := dk_96 (dk_at dksX0_lambda_onceLook_3_3 15 rfl rfl)
theorem dX0_lambda_onceLook_3_87 : decode cX0_lambda_onceLook_3 87 = .ok (.iconst 5, 1) := dk_8 (dk_at dksX0_lambda_onceLook_3_3 16 rfl rfl)
theorem dX0_lambda_onceLook_3_88 : decode cX0_lambda_onceLook_3 88 = .ok (.iadd, 1) := dk_96 (dk_at dksX0_lambda_onceLook_3_3 17 rfl rfl)
theorem dX0_lambda_onceLook_3_89 : decode cX0_lambda_onceLook_3 89 = .ok (.iload 7, 2) := dk_21 7 (dk_at dksX0_lambda_onceLook_3_3 18 rfl rfl)
theorem dX0_lambda_onceLook_3_91 : decode cX0_lambda_onceLook_3 91 = .ok (.iadd, 1) := dk_96 (dk_at dksX0_lambda_onceLook_3_3 20 rfl rfl)
theorem dX0_lambda_onceLook_3_92 : decode cX0_lambda_onceLook_3 92 = .ok (.bipush 12, 2) := dk_16 12 (dk_at dksX0_lambda_onceLook_3_3 21 rfl rfl)
theorem dX0_lambda_onceLook_3_94 : decode cX0_lambda_onceLook_3 94 = .ok (.invokevirtual 494, 3) := dk_182 1 238 (dk_at dksX0_lambda_onceLook_3_4 0 rfl rfl)
theorem dX0_lambda_onceLook_3_97 : decode cX0_lambda_onceLook_3 97 = .ok (.iinc 7 1, 3) := dk_132 7 1 (dk_at dksX0_lambda_onceLook_3_4 3 rfl rfl)
theorem dX0_lambda_onceLook_3_100 : decode cX0_lambda_onceLook_3 100 = .ok (.goto (-41), 3) := dk_167 255 215 (dk_at dksX0_lambda_onceLook_3_4 6 rfl rfl)
theorem dX0_lambda_onceLook_3_103 : decode cX0_lambda_onceLook_3 103 = .ok (.aload_n 3, 1) := dk_45 (dk_at dksX0_lambda_onceLook_3_4 9 rfl rfl)
theorem dX0_lambda_onceLook_3_104 : decode cX0_lambda_onceLook_3 104 = .ok (.aload 5, 2) := dk_25 5 (dk_at dksX0_lambda_onceLook_3_4 10 rfl rfl)
theorem dX0_lambda_onceLook_3_106 : decode cX0_lambda_onceLook_3 106 = .ok (.invokevirtual 486, 3) := dk_182 1 230 (dk_at dksX0_lambda_onceLook_3_4 12 rfl rfl)
theorem dX0_lambda_onceLook_3_109 : decode cX0_lambda_onceLook_3 109 = .ok (.getfield 475, 3) := dk_180 1 219 (dk_at dksX0_lambda_onceLook_3_4 15 rfl rfl)
theorem dX0_lambda_onceLook_3_112 : decode cX0_lambda_onceLook_3 112 = .ok (.iload 4, 2) := dk_21 4 (dk_at dksX0_lambda_onceLook_3_4 18 rfl rfl)
theorem dX0_lambda_onceLook_3_114 : decode cX0_lambda_onceLook_3 114 = .ok (.putfield 479, 3) := dk_181 1 223 (dk_at dksX0_lambda_onceLook_3_4 20 rfl rfl)
theorem dX0_lambda_onceLook_3_117 : decode cX0_lambda_onceLook_3 117 = .ok (.return_, 1) := dk_177 (dk_at dksX0_lambda_onceLook_3_4 23 rfl rfl)
abbrev cX0_by : ByteArray := prog_1_method_10_code
def yX0_by : MethodName := ⟨RX0, "by", "(LGathersAllFaults$Look;LGathersAllFaults$Value;ILGathersAllFaults$Sink;)LGathersAllFaults$Finding;"⟩
def dkwX0_by_0 : List UInt8 := [45, 182, 0, 21, 58, 4, 42, 43, 28, 25, 4, 185, 0, 27, 4, 0, 25, 4, 176]
abbrev dktX0_by_0 : List UInt8 := dkwX0_by_0 ++ []
theorem dksX0_by_0 : cX0_by.data.toList.drop 0 = dktX0_by_0 := by decide +kernel
theorem dX0_by_0 : decode cX0_by 0 = .ok (.aload_n 3, 1) := dk_45 (dk_at dksX0_by_0 0 rfl rfl)
theorem dX0_by_1 : decode cX0_by 1 = .ok (.invokevirtual 21, 3) := dk_182 0 21 (dk_at dksX0_by_0 1 rfl rfl)
theorem dX0_by_4 : decode cX0_by 4 = .ok (.astore 4, 2) := dk_58 4 (dk_at dksX0_by_0 4 rfl rfl)
theorem dX0_by_6 : decode cX0_by 6 = .ok (.aload_n 0, 1) := dk_42 (dk_at dksX0_by_0 6 rfl rfl)
theorem dX0_by_7 : decode cX0_by 7 = .ok (.aload_n 1, 1) := dk_43 (dk_at dksX0_by_0 7 rfl rfl)
theorem dX0_by_8 : decode cX0_by 8 = .ok (.iload_n 2, 1) := dk_28 (dk_at dksX0_by_0 8 rfl rfl)
theorem dX0_by_9 : decode cX0_by 9 = .ok (.aload 4, 2) := dk_25 4 (dk_at dksX0_by_0 9 rfl rfl)
theorem dX0_by_11 : decode cX0_by 11 = .ok (.invokeinterface 27 4, 5) := by decide +kernel
theorem dX0_by_16 : decode cX0_by 16 = .ok (.aload 4, 2) := dk_25 4 (dk_at dksX0_by_0 16 rfl rfl)
theorem dX0_by_18 : decode cX0_by 18 = .ok (.areturn, 1) := dk_176 (dk_at dksX0_by_0 18 rfl rfl)
abbrev cX0_eitherLook : ByteArray := prog_1_method_15_code
def yX0_eitherLook : MethodName := ⟨RX0, "eitherLook", "(LGathersAllFaults$Look;LGathersAllFaults$Look;)LGathersAllFaults$Look;"⟩
def dkwX0_eitherLook_0 : List UInt8 := [42, 43, 186, 0, 45, 0, 0, 176]
abbrev dktX0_eitherLook_0 : List UInt8 := dkwX0_eitherLook_0 ++ []
theorem dksX0_eitherLook_0 : cX0_eitherLook.data.toList.drop 0 = dktX0_eitherLook_0 := by decide +kernel
theorem dX0_eitherLook_0 : decode cX0_eitherLook 0 = .ok (.aload_n 0, 1) := dk_42 (dk_at dksX0_eitherLook_0 0 rfl rfl)
theorem dX0_eitherLook_1 : decode cX0_eitherLook 1 = .ok (.aload_n 1, 1) := dk_43 (dk_at dksX0_eitherLook_0 1 rfl rfl)
theorem dX0_eitherLook_2 : decode cX0_eitherLook 2 = .ok (.invokedynamic 45, 5) := by decide +kernel
theorem dX0_eitherLook_7 : decode cX0_eitherLook 7 = .ok (.areturn, 1) := dk_176 (dk_at dksX0_eitherLook_0 7 rfl rfl)
abbrev cX0_lambda_eitherLook_4 : ByteArray := prog_1_method_95_code
def yX0_lambda_eitherLook_4 : MethodName := ⟨RX0, "lambda$eitherLook$4", "(LGathersAllFaults$Look;LGathersAllFaults$Look;LGathersAllFaults$Value;ILGathersAllFaults$Finding;)V"⟩
def dkwX0_lambda_eitherLook_4_3 : List UInt8 := [25, 7, 167, 0, 5, 25, 6, 182, 1, 230, 180, 1, 219, 21, 5, 181, 1, 223, 177]
abbrev dktX0_lambda_eitherLook_4_3 : List UInt8 := dkwX0_lambda_eitherLook_4_3 ++ []
def dkwX0_lambda_eitherLook_4_2 : List UInt8 := [58, 7, 25, 4, 25, 7, 180, 0, 221, 180, 0, 149, 25, 6, 180, 0, 221, 180, 0, 149, 162, 0, 8]
abbrev dktX0_lambda_eitherLook_4_2 : List UInt8 := dkwX0_lambda_eitherLook_4_2 ++ dktX0_lambda_eitherLook_4_3
def dkwX0_lambda_eitherLook_4_1 : List UInt8 := [25, 6, 182, 1, 37, 153, 0, 8, 25, 6, 167, 0, 14, 43, 44, 29, 25, 4, 180, 1, 219, 184, 1, 226]
abbrev dktX0_lambda_eitherLook_4_1 : List UInt8 := dkwX0_lambda_eitherLook_4_1 ++ dktX0_lambda_eitherLook_4_2
def dkwX0_lambda_eitherLook_4_0 : List UInt8 := [25, 4, 180, 1, 219, 180, 1, 223, 54, 5, 42, 44, 29, 25, 4, 180, 1, 219, 184, 1, 226, 58, 6]
abbrev dktX0_lambda_eitherLook_4_0 : List UInt8 := dkwX0_lambda_eitherLook_4_0 ++ dktX0_lambda_eitherLook_4_1
theorem dksX0_lambda_eitherLook_4_0 : cX0_lambda_eitherLook_4.data.toList.drop 0 = dktX0_lambda_eitherLook_4_0 := by decide +kernel
theorem dksX0_lambda_eitherLook_4_1 : cX0_lambda_eitherLook_4.data.toList.drop 23 = dktX0_lambda_eitherLook_4_1 := dk_seg dksX0_lambda_eitherLook_4_0 23 rfl rfl
theorem dksX0_lambda_eitherLook_4_2 : cX0_lambda_eitherLook_4.data.toList.drop 47 = dktX0_lambda_eitherLook_4_2 := dk_seg dksX0_lambda_eitherLook_4_1 24 rfl rfl
theorem dksX0_lambda_eitherLook_4_3 : cX0_lambda_eitherLook_4.data.toList.drop 70 = dktX0_lambda_eitherLook_4_3 := dk_seg dksX0_lambda_eitherLook_4_2 23 rfl rfl
theorem dX0_lambda_eitherLook_4_0 : decode cX0_lambda_eitherLook_4 0 = .ok (.aload 4, 2) := dk_25 4 (dk_at dksX0_lambda_eitherLook_4_0 0 rfl rfl)
theorem dX0_lambda_eitherLook_4_2 : decode cX0_lambda_eitherLook_4 2 = .ok (.getfield 475, 3) := dk_180 1 219 (dk_at dksX0_lambda_eitherLook_4_0 2 rfl rfl)
theorem dX0_lambda_eitherLook_4_5 : decode cX0_lambda_eitherLook_4 5 = .ok (.getfield 479, 3) := dk_180 1 223 (dk_at dksX0_lambda_eitherLook_4_0 5 rfl rfl)
theorem dX0_lambda_eitherLook_4_8 : decode cX0_lambda_eitherLook_4 8 = .ok (.istore 5, 2) := dk_54 5 (dk_at dksX0_lambda_eitherLook_4_0 8 rfl rfl)
theorem dX0_lambda_eitherLook_4_10 : decode cX0_lambda_eitherLook_4 10 = .ok (.aload_n 0, 1) := dk_42 (dk_at dksX0_lambda_eitherLook_4_0 10 rfl rfl)
theorem dX0_lambda_eitherLook_4_11 : decode cX0_lambda_eitherLook_4 11 = .ok (.aload_n 2, 1) := dk_44 (dk_at dksX0_lambda_eitherLook_4_0 11 rfl rfl)
theorem dX0_lambda_eitherLook_4_12 : decode cX0_lambda_eitherLook_4 12 = .ok (.iload_n 3, 1) := dk_29 (dk_at dksX0_lambda_eitherLook_4_0 12 rfl rfl)
theorem dX0_lambda_eitherLook_4_13 : decode cX0_lambda_eitherLook_4 13 = .ok (.aload 4, 2) := dk_25 4 (dk_at dksX0_lambda_eitherLook_4_0 13 rfl rfl)
theorem dX0_lambda_eitherLook_4_15 : decode cX0_lambda_eitherLook_4 15 = .ok (.getfield 475, 3) := dk_180 1 219 (dk_at dksX0_lambda_eitherLook_4_0 15 rfl rfl)
theorem dX0_lambda_eitherLook_4_18 : decode cX0_lambda_eitherLook_4 18 = .ok (.invokestatic 482, 3) := dk_184 1 226 (dk_at dksX0_lambda_eitherLook_4_0 18 rfl rfl)
theorem dX0_lambda_eitherLook_4_21 : decode cX0_lambda_eitherLook_4 21 = .ok (.astore 6, 2) := dk_58 6 (dk_at dksX0_lambda_eitherLook_4_0 21 rfl rfl)
theorem dX0_lambda_eitherLook_4_23 : decode cX0_lambda_eitherLook_4 23 = .ok (.aload 6, 2) := dk_25 6 (dk_at dksX0_lambda_eitherLook_4_1 0 rfl rfl)
theorem dX0_lambda_eitherLook_4_25 : decode cX0_lambda_eitherLook_4 25 = .ok (.invokevirtual 293, 3) := dk_182 1 37 (dk_at dksX0_lambda_eitherLook_4_1 2 rfl rfl)
theorem dX0_lambda_eitherLook_4_28 : decode cX0_lambda_eitherLook_4 28 = .ok (.ifCond .eq 8, 3) := dk_153 0 8 (dk_at dksX0_lambda_eitherLook_4_1 5 rfl rfl)
theorem dX0_lambda_eitherLook_4_31 : decode cX0_lambda_eitherLook_4 31 = .ok (.aload 6, 2) := dk_25 6 (dk_at dksX0_lambda_eitherLook_4_1 8 rfl rfl)
theorem dX0_lambda_eitherLook_4_33 : decode cX0_lambda_eitherLook_4 33 = .ok (.goto 14, 3) := dk_167 0 14 (dk_at dksX0_lambda_eitherLook_4_1 10 rfl rfl)
theorem dX0_lambda_eitherLook_4_36 : decode cX0_lambda_eitherLook_4 36 = .ok (.aload_n 1, 1) := dk_43 (dk_at dksX0_lambda_eitherLook_4_1 13 rfl rfl)
theorem dX0_lambda_eitherLook_4_37 : decode cX0_lambda_eitherLook_4 37 = .ok (.aload_n 2, 1) := dk_44 (dk_at dksX0_lambda_eitherLook_4_1 14 rfl rfl)
theorem dX0_lambda_eitherLook_4_38 : decode cX0_lambda_eitherLook_4 38 = .ok (.iload_n 3, 1) := dk_29 (dk_at dksX0_lambda_eitherLook_4_1 15 rfl rfl)
theorem dX0_lambda_eitherLook_4_39 : decode cX0_lambda_eitherLook_4 39 = .ok (.aload 4, 2) := dk_25 4 (dk_at dksX0_lambda_eitherLook_4_1 16 rfl rfl)
theorem dX0_lambda_eitherLook_4_41 : decode cX0_lambda_eitherLook_4 41 = .ok (.getfield 475, 3) := dk_180 1 219 (dk_at dksX0_lambda_eitherLook_4_1 18 rfl rfl)
theorem dX0_lambda_eitherLook_4_44 : decode cX0_lambda_eitherLook_4 44 = .ok (.invokestatic 482, 3) := dk_184 1 226 (dk_at dksX0_lambda_eitherLook_4_1 21 rfl rfl)
theorem dX0_lambda_eitherLook_4_47 : decode cX0_lambda_eitherLook_4 47 = .ok (.astore 7, 2) := dk_58 7 (dk_at dksX0_lambda_eitherLook_4_2 0 rfl rfl)
theorem dX0_lambda_eitherLook_4_49 : decode cX0_lambda_eitherLook_4 49 = .ok (.aload 4, 2) := dk_25 4 (dk_at dksX0_lambda_eitherLook_4_2 2 rfl rfl)
theorem dX0_lambda_eitherLook_4_51 : decode cX0_lambda_eitherLook_4 51 = .ok (.aload 7, 2) := dk_25 7 (dk_at dksX0_lambda_eitherLook_4_2 4 rfl rfl)
theorem dX0_lambda_eitherLook_4_53 : decode cX0_lambda_eitherLook_4 53 = .ok (.getfield 221, 3) := dk_180 0 221 (dk_at dksX0_lambda_eitherLook_4_2 6 rfl rfl)
theorem dX0_lambda_eitherLook_4_56 : decode cX0_lambda_eitherLook_4 56 = .ok (.getfield 149, 3) := dk_180 0 149 (dk_at dksX0_lambda_eitherLook_4_2 9 rfl rfl)
theorem dX0_lambda_eitherLook_4_59 : decode cX0_lambda_eitherLook_4 59 = .ok (.aload 6, 2) := dk_25 6 (dk_at dksX0_lambda_eitherLook_4_2 12 rfl rfl)
theorem dX0_lambda_eitherLook_4_61 : decode cX0_lambda_eitherLook_4 61 = .ok (.getfield 221, 3) := dk_180 0 221 (dk_at dksX0_lambda_eitherLook_4_2 14 rfl rfl)
theorem dX0_lambda_eitherLook_4_64 : decode cX0_lambda_eitherLook_4 64 = .ok (.getfield 149, 3) := dk_180 0 149 (dk_at dksX0_lambda_eitherLook_4_2 17 rfl rfl)
theorem dX0_lambda_eitherLook_4_67 : decode cX0_lambda_eitherLook_4 67 = .ok (.if_icmp .ge 8, 3) := dk_162 0 8 (dk_at dksX0_lambda_eitherLook_4_2 20 rfl rfl)
theorem dX0_lambda_eitherLook_4_70 : decode cX0_lambda_eitherLook_4 70 = .ok (.aload 7, 2) := dk_25 7 (dk_at dksX0_lambda_eitherLook_4_3 0 rfl rfl)
theorem dX0_lambda_eitherLook_4_72 : decode cX0_lambda_eitherLook_4 72 = .ok (.goto 5, 3) := dk_167 0 5 (dk_at dksX0_lambda_eitherLook_4_3 2 rfl rfl)
theorem dX0_lambda_eitherLook_4_75 : decode cX0_lambda_eitherLook_4 75 = .ok (.aload 6, 2) := dk_25 6 (dk_at dksX0_lambda_eitherLook_4_3 5 rfl rfl)
theorem dX0_lambda_eitherLook_4_77 : decode cX0_lambda_eitherLook_4 77 = .ok (.invokevirtual 486, 3) := dk_182 1 230 (dk_at dksX0_lambda_eitherLook_4_3 7 rfl rfl)
theorem dX0_lambda_eitherLook_4_80 : decode cX0_lambda_eitherLook_4 80 = .ok (.getfield 475, 3) := dk_180 1 219 (dk_at dksX0_lambda_eitherLook_4_3 10 rfl rfl)
theorem dX0_lambda_eitherLook_4_83 : decode cX0_lambda_eitherLook_4 83 = .ok (.iload 5, 2) := dk_21 5 (dk_at dksX0_lambda_eitherLook_4_3 13 rfl rfl)
theorem dX0_lambda_eitherLook_4_85 : decode cX0_lambda_eitherLook_4 85 = .ok (.putfield 479, 3) := dk_181 1 223 (dk_at dksX0_lambda_eitherLook_4_3 15 rfl rfl)
theorem dX0_lambda_eitherLook_4_88 : decode cX0_lambda_eitherLook_4 88 = .ok (.return_, 1) := dk_177 (dk_at dksX0_lambda_eitherLook_4_3 18 rfl rfl)
abbrev cX0_partAsked : ByteArray := prog_1_method_23_code
def yX0_partAsked : MethodName := ⟨RX0, "partAsked", "(II)I"⟩
def dkwX0_partAsked_3 : List UInt8 := [192, 0, 155, 180, 0, 157, 27, 159, 0, 9, 132, 5, 1, 167, 255, 236, 21, 5, 172]
abbrev dktX0_partAsked_3 : List UInt8 := dkwX0_partAsked_3 ++ []
def dkwX0_partAsked_2 : List UInt8 := [167, 0, 7, 45, 182, 0, 54, 172, 42, 182, 0, 145, 58, 4, 3, 54, 5, 25, 4, 21, 5, 182, 0, 152]
abbrev dktX0_partAsked_2 : List UInt8 := dkwX0_partAsked_2 ++ dktX0_partAsked_3
def dkwX0_partAsked_1 : List UInt8 := [162, 0, 31, 28, 154, 0, 10, 45, 182, 0, 177, 167, 0, 19, 28, 4, 160, 0, 10, 45, 182, 0, 180]
abbrev dktX0_partAsked_1 : List UInt8 := dkwX0_partAsked_1 ++ dktX0_partAsked_2
def dkwX0_partAsked_0 : List UInt8 := [42, 27, 182, 0, 173, 78, 28, 133, 9, 20, 0, 175, 184, 0, 13, 16, 254, 184, 0, 9, 28, 6]
abbrev dktX0_partAsked_0 : List UInt8 := dkwX0_partAsked_0 ++ dktX0_partAsked_1
theorem dksX0_partAsked_0 : cX0_partAsked.data.toList.drop 0 = dktX0_partAsked_0 := by decide +kernel
theorem dksX0_partAsked_1 : cX0_partAsked.data.toList.drop 22 = dktX0_partAsked_1 := dk_seg dksX0_partAsked_0 22 rfl rfl
theorem dksX0_partAsked_2 : cX0_partAsked.data.toList.drop 45 = dktX0_partAsked_2 := dk_seg dksX0_partAsked_1 23 rfl rfl
theorem dksX0_partAsked_3 : cX0_partAsked.data.toList.drop 69 = dktX0_partAsked_3 := dk_seg dksX0_partAsked_2 24 rfl rfl
theorem dX0_partAsked_0 : decode cX0_partAsked 0 = .ok (.aload_n 0, 1) := dk_42 (dk_at dksX0_partAsked_0 0 rfl rfl)
theorem dX0_partAsked_1 : decode cX0_partAsked 1 = .ok (.iload_n 1, 1) := dk_27 (dk_at dksX0_partAsked_0 1 rfl rfl)
theorem dX0_partAsked_2 : decode cX0_partAsked 2 = .ok (.invokevirtual 173, 3) := dk_182 0 173 (dk_at dksX0_partAsked_0 2 rfl rfl)
theorem dX0_partAsked_5 : decode cX0_partAsked 5 = .ok (.astore_n 3, 1) := dk_78 (dk_at dksX0_partAsked_0 5 rfl rfl)
theorem dX0_partAsked_6 : decode cX0_partAsked 6 = .ok (.iload_n 2, 1) := dk_28 (dk_at dksX0_partAsked_0 6 rfl rfl)
theorem dX0_partAsked_7 : decode cX0_partAsked 7 = .ok (.i2l, 1) := dk_133 (dk_at dksX0_partAsked_0 7 rfl rfl)
theorem dX0_partAsked_8 : decode cX0_partAsked 8 = .ok (.lconst 0, 1) := dk_9 (dk_at dksX0_partAsked_0 8 rfl rfl)
theorem dX0_partAsked_9 : decode cX0_partAsked 9 = .ok (.ldc2_w 175, 3) := dk_20 0 175 (dk_at dksX0_partAsked_0 9 rfl rfl)
theorem dX0_partAsked_12 : decode cX0_partAsked 12 = .ok (.invokestatic 13, 3) := dk_184 0 13 (dk_at dksX0_partAsked_0 12 rfl rfl)
theorem dX0_partAsked_15 : decode cX0_partAsked 15 = .ok (.bipush (-2), 2) := dk_16 254 (dk_at dksX0_partAsked_0 15 rfl rfl)
theorem dX0_partAsked_17 : decode cX0_partAsked 17 = .ok (.invokestatic 9, 3) := dk_184 0 9 (dk_at dksX0_partAsked_0 17 rfl rfl)
theorem dX0_partAsked_20 : decode cX0_partAsked 20 = .ok (.iload_n 2, 1) := dk_28 (dk_at dksX0_partAsked_0 20 rfl rfl)
theorem dX0_partAsked_21 : decode cX0_partAsked 21 = .ok (.iconst 3, 1) := dk_6 (dk_at dksX0_partAsked_0 21 rfl rfl)
theorem dX0_partAsked_22 : decode cX0_partAsked 22 = .ok (.if_icmp .ge 31, 3) := dk_162 0 31 (dk_at dksX0_partAsked_1 0 rfl rfl)
theorem dX0_partAsked_25 : decode cX0_partAsked 25 = .ok (.iload_n 2, 1) := dk_28 (dk_at dksX0_partAsked_1 3 rfl rfl)
theorem dX0_partAsked_26 : decode cX0_partAsked 26 = .ok (.ifCond .ne 10, 3) := dk_154 0 10 (dk_at dksX0_partAsked_1 4 rfl rfl)
theorem dX0_partAsked_29 : decode cX0_partAsked 29 = .ok (.aload_n 3, 1) := dk_45 (dk_at dksX0_partAsked_1 7 rfl rfl)
theorem dX0_partAsked_30 : decode cX0_partAsked 30 = .ok (.invokevirtual 177, 3) := dk_182 0 177 (dk_at dksX0_partAsked_1 8 rfl rfl)
theorem dX0_partAsked_33 : decode cX0_partAsked 33 = .ok (.goto 19, 3) := dk_167 0 19 (dk_at dksX0_partAsked_1 11 rfl rfl)
theorem dX0_partAsked_36 : decode cX0_partAsked 36 = .ok (.iload_n 2, 1) := dk_28 (dk_at dksX0_partAsked_1 14 rfl rfl)
theorem dX0_partAsked_37 : decode cX0_partAsked 37 = .ok (.iconst 1, 1) := dk_4 (dk_at dksX0_partAsked_1 15 rfl rfl)
theorem dX0_partAsked_38 : decode cX0_partAsked 38 = .ok (.if_icmp .ne 10, 3) := dk_160 0 10 (dk_at dksX0_partAsked_1 16 rfl rfl)
theorem dX0_partAsked_41 : decode cX0_partAsked 41 = .ok (.aload_n 3, 1) := dk_45 (dk_at dksX0_partAsked_1 19 rfl rfl)
theorem dX0_partAsked_42 : decode cX0_partAsked 42 = .ok (.invokevirtual 180, 3) := dk_182 0 180 (dk_at dksX0_partAsked_1 20 rfl rfl)
theorem dX0_partAsked_45 : decode cX0_partAsked 45 = .ok (.goto 7, 3) := dk_167 0 7 (dk_at dksX0_partAsked_2 0 rfl rfl)
theorem dX0_partAsked_48 : decode cX0_partAsked 48 = .ok (.aload_n 3, 1) := dk_45 (dk_at dksX0_partAsked_2 3 rfl rfl)
theorem dX0_partAsked_49 : decode cX0_partAsked 49 = .ok (.invokevirtual 54, 3) := dk_182 0 54 (dk_at dksX0_partAsked_2 4 rfl rfl)
theorem dX0_partAsked_52 : decode cX0_partAsked 52 = .ok (.ireturn, 1) := dk_172 (dk_at dksX0_partAsked_2 7 rfl rfl)
theorem dX0_partAsked_53 : decode cX0_partAsked 53 = .ok (.aload_n 0, 1) := dk_42 (dk_at dksX0_partAsked_2 8 rfl rfl)
theorem dX0_partAsked_54 : decode cX0_partAsked 54 = .ok (.invokevirtual 145, 3) := dk_182 0 145 (dk_at dksX0_partAsked_2 9 rfl rfl)
theorem dX0_partAsked_57 : decode cX0_partAsked 57 = .ok (.astore 4, 2) := dk_58 4 (dk_at dksX0_partAsked_2 12 rfl rfl)
theorem dX0_partAsked_59 : decode cX0_partAsked 59 = .ok (.iconst 0, 1) := dk_3 (dk_at dksX0_partAsked_2 14 rfl rfl)
theorem dX0_partAsked_60 : decode cX0_partAsked 60 = .ok (.istore 5, 2) := dk_54 5 (dk_at dksX0_partAsked_2 15 rfl rfl)
theorem dX0_partAsked_62 : decode cX0_partAsked 62 = .ok (.aload 4, 2) := dk_25 4 (dk_at dksX0_partAsked_2 17 rfl rfl)
theorem dX0_partAsked_64 : decode cX0_partAsked 64 = .ok (.iload 5, 2) := dk_21 5 (dk_at dksX0_partAsked_2 19 rfl rfl)
theorem dX0_partAsked_66 : decode cX0_partAsked 66 = .ok (.invokevirtual 152, 3) := dk_182 0 152 (dk_at dksX0_partAsked_2 21 rfl rfl)
theorem dX0_partAsked_69 : decode cX0_partAsked 69 = .ok (.checkcast 155, 3) := dk_192 0 155 (dk_at dksX0_partAsked_3 0 rfl rfl)
theorem dX0_partAsked_72 : decode cX0_partAsked 72 = .ok (.getfield 157, 3) := dk_180 0 157 (dk_at dksX0_partAsked_3 3 rfl rfl)
theorem dX0_partAsked_75 : decode cX0_partAsked 75 = .ok (.iload_n 1, 1) := dk_27 (dk_at dksX0_partAsked_3 6 rfl rfl)
theorem dX0_partAsked_76 : decode cX0_partAsked 76 = .ok (.if_icmp .eq 9, 3) := dk_159 0 9 (dk_at dksX0_partAsked_3 7 rfl rfl)
theorem dX0_partAsked_79 : decode cX0_partAsked 79 = .ok (.iinc 5 1, 3) := dk_132 5 1 (dk_at dksX0_partAsked_3 10 rfl rfl)
theorem dX0_partAsked_82 : decode cX0_partAsked 82 = .ok (.goto (-20), 3) := dk_167 255 236 (dk_at dksX0_partAsked_3 13 rfl rfl)
theorem dX0_partAsked_85 : decode cX0_partAsked 85 = .ok (.iload 5, 2) := dk_21 5 (dk_at dksX0_partAsked_3 16 rfl rfl)
theorem dX0_partAsked_87 : decode cX0_partAsked 87 = .ok (.ireturn, 1) := dk_172 (dk_at dksX0_partAsked_3 18 rfl rfl)
abbrev cX0_at : ByteArray := prog_1_method_21_code
def yX0_at : MethodName := ⟨RX0, "at", "(I)LGathersAllFaults$Value;"⟩
def dkwX0_at_3 : List UInt8 := [89, 2, 183, 0, 3, 191]
abbrev dktX0_at_3 : List UInt8 := dkwX0_at_3 ++ []
def dkwX0_at_2 : List UInt8 := [160, 0, 15, 44, 29, 182, 0, 152, 192, 0, 155, 180, 0, 160, 176, 132, 3, 1, 167, 255, 218, 187, 0, 1]
abbrev dktX0_at_2 : List UInt8 := dkwX0_at_2 ++ dktX0_at_3
def dkwX0_at_1 : List UInt8 := [77, 3, 62, 29, 44, 180, 0, 149, 162, 0, 36, 44, 29, 182, 0, 152, 192, 0, 155, 180, 0, 157, 27]
abbrev dktX0_at_1 : List UInt8 := dkwX0_at_1 ++ dktX0_at_2
def dkwX0_at_0 : List UInt8 := [27, 155, 0, 14, 27, 17, 39, 15, 163, 0, 7, 4, 167, 0, 4, 3, 2, 184, 0, 9, 42, 182, 0, 145]
abbrev dktX0_at_0 : List UInt8 := dkwX0_at_0 ++ dktX0_at_1
theorem dksX0_at_0 : cX0_at.data.toList.drop 0 = dktX0_at_0 := by decide +kernel
theorem dksX0_at_1 : cX0_at.data.toList.drop 24 = dktX0_at_1 := dk_seg dksX0_at_0 24 rfl rfl
theorem dksX0_at_2 : cX0_at.data.toList.drop 47 = dktX0_at_2 := dk_seg dksX0_at_1 23 rfl rfl
theorem dksX0_at_3 : cX0_at.data.toList.drop 71 = dktX0_at_3 := dk_seg dksX0_at_2 24 rfl rfl
theorem dX0_at_0 : decode cX0_at 0 = .ok (.iload_n 1, 1) := dk_27 (dk_at dksX0_at_0 0 rfl rfl)
theorem dX0_at_1 : decode cX0_at 1 = .ok (.ifCond .lt 14, 3) := dk_155 0 14 (dk_at dksX0_at_0 1 rfl rfl)
theorem dX0_at_4 : decode cX0_at 4 = .ok (.iload_n 1, 1) := dk_27 (dk_at dksX0_at_0 4 rfl rfl)
theorem dX0_at_5 : decode cX0_at 5 = .ok (.sipush 9999, 3) := dk_17 39 15 (dk_at dksX0_at_0 5 rfl rfl)
theorem dX0_at_8 : decode cX0_at 8 = .ok (.if_icmp .gt 7, 3) := dk_163 0 7 (dk_at dksX0_at_0 8 rfl rfl)
theorem dX0_at_11 : decode cX0_at 11 = .ok (.iconst 1, 1) := dk_4 (dk_at dksX0_at_0 11 rfl rfl)
theorem dX0_at_12 : decode cX0_at 12 = .ok (.goto 4, 3) := dk_167 0 4 (dk_at dksX0_at_0 12 rfl rfl)
theorem dX0_at_15 : decode cX0_at 15 = .ok (.iconst 0, 1) := dk_3 (dk_at dksX0_at_0 15 rfl rfl)
theorem dX0_at_16 : decode cX0_at 16 = .ok (.iconst (-1), 1) := dk_2 (dk_at dksX0_at_0 16 rfl rfl)
theorem dX0_at_17 : decode cX0_at 17 = .ok (.invokestatic 9, 3) := dk_184 0 9 (dk_at dksX0_at_0 17 rfl rfl)
theorem dX0_at_20 : decode cX0_at 20 = .ok (.aload_n 0, 1) := dk_42 (dk_at dksX0_at_0 20 rfl rfl)
theorem dX0_at_21 : decode cX0_at 21 = .ok (.invokevirtual 145, 3) := dk_182 0 145 (dk_at dksX0_at_0 21 rfl rfl)
theorem dX0_at_24 : decode cX0_at 24 = .ok (.astore_n 2, 1) := dk_77 (dk_at dksX0_at_1 0 rfl rfl)
theorem dX0_at_25 : decode cX0_at 25 = .ok (.iconst 0, 1) := dk_3 (dk_at dksX0_at_1 1 rfl rfl)
theorem dX0_at_26 : decode cX0_at 26 = .ok (.istore_n 3, 1) := dk_62 (dk_at dksX0_at_1 2 rfl rfl)
theorem dX0_at_27 : decode cX0_at 27 = .ok (.iload_n 3, 1) := dk_29 (dk_at dksX0_at_1 3 rfl rfl)
theorem dX0_at_28 : decode cX0_at 28 = .ok (.aload_n 2, 1) := dk_44 (dk_at dksX0_at_1 4 rfl rfl)
theorem dX0_at_29 : decode cX0_at 29 = .ok (.getfield 149, 3) := dk_180 0 149 (dk_at dksX0_at_1 5 rfl rfl)
theorem dX0_at_32 : decode cX0_at 32 = .ok (.if_icmp .ge 36, 3) := dk_162 0 36 (dk_at dksX0_at_1 8 rfl rfl)
theorem dX0_at_35 : decode cX0_at 35 = .ok (.aload_n 2, 1) := dk_44 (dk_at dksX0_at_1 11 rfl rfl)
theorem dX0_at_36 : decode cX0_at 36 = .ok (.iload_n 3, 1) := dk_29 (dk_at dksX0_at_1 12 rfl rfl)
theorem dX0_at_37 : decode cX0_at 37 = .ok (.invokevirtual 152, 3) := dk_182 0 152 (dk_at dksX0_at_1 13 rfl rfl)
theorem dX0_at_40 : decode cX0_at 40 = .ok (.checkcast 155, 3) := dk_192 0 155 (dk_at dksX0_at_1 16 rfl rfl)
theorem dX0_at_43 : decode cX0_at 43 = .ok (.getfield 157, 3) := dk_180 0 157 (dk_at dksX0_at_1 19 rfl rfl)
theorem dX0_at_46 : decode cX0_at 46 = .ok (.iload_n 1, 1) := dk_27 (dk_at dksX0_at_1 22 rfl rfl)
theorem dX0_at_47 : decode cX0_at 47 = .ok (.if_icmp .ne 15, 3) := dk_160 0 15 (dk_at dksX0_at_2 0 rfl rfl)
theorem dX0_at_50 : decode cX0_at 50 = .ok (.aload_n 2, 1) := dk_44 (dk_at dksX0_at_2 3 rfl rfl)
theorem dX0_at_51 : decode cX0_at 51 = .ok (.iload_n 3, 1) := dk_29 (dk_at dksX0_at_2 4 rfl rfl)
theorem dX0_at_52 : decode cX0_at 52 = .ok (.invokevirtual 152, 3) := dk_182 0 152 (dk_at dksX0_at_2 5 rfl rfl)
theorem dX0_at_55 : decode cX0_at 55 = .ok (.checkcast 155, 3) := dk_192 0 155 (dk_at dksX0_at_2 8 rfl rfl)
theorem dX0_at_58 : decode cX0_at 58 = .ok (.getfield 160, 3) := dk_180 0 160 (dk_at dksX0_at_2 11 rfl rfl)
theorem dX0_at_61 : decode cX0_at 61 = .ok (.areturn, 1) := dk_176 (dk_at dksX0_at_2 14 rfl rfl)
theorem dX0_at_62 : decode cX0_at 62 = .ok (.iinc 3 1, 3) := dk_132 3 1 (dk_at dksX0_at_2 15 rfl rfl)
theorem dX0_at_65 : decode cX0_at 65 = .ok (.goto (-38), 3) := dk_167 255 218 (dk_at dksX0_at_2 18 rfl rfl)
theorem dX0_at_68 : decode cX0_at 68 = .ok (.new 1, 3) := dk_187 0 1 (dk_at dksX0_at_2 21 rfl rfl)
theorem dX0_at_71 : decode cX0_at 71 = .ok (.dup, 1) := dk_89 (dk_at dksX0_at_3 0 rfl rfl)
theorem dX0_at_72 : decode cX0_at 72 = .ok (.iconst (-1), 1) := dk_2 (dk_at dksX0_at_3 1 rfl rfl)
theorem dX0_at_73 : decode cX0_at 73 = .ok (.invokespecial 3, 3) := dk_183 0 3 (dk_at dksX0_at_3 2 rfl rfl)
theorem dX0_at_76 : decode cX0_at 76 = .ok (.athrow, 1) := dk_191 (dk_at dksX0_at_3 5 rfl rfl)
abbrev cX0_parts : ByteArray := prog_1_method_20_code
def yX0_parts : MethodName := ⟨RX0, "parts", "()LGathersAllFaults$Row;"⟩
def dkwX0_parts_0 : List UInt8 := [187, 0, 138, 89, 183, 0, 140, 76, 42, 180, 0, 66, 43, 3, 182, 0, 141, 43, 176]
abbrev dktX0_parts_0 : List UInt8 := dkwX0_parts_0 ++ []
theorem dksX0_parts_0 : cX0_parts.data.toList.drop 0 = dktX0_parts_0 := by decide +kernel
theorem dX0_parts_0 : decode cX0_parts 0 = .ok (.new 138, 3) := dk_187 0 138 (dk_at dksX0_parts_0 0 rfl rfl)
theorem dX0_parts_3 : decode cX0_parts 3 = .ok (.dup, 1) := dk_89 (dk_at dksX0_parts_0 3 rfl rfl)
theorem dX0_parts_4 : decode cX0_parts 4 = .ok (.invokespecial 140, 3) := dk_183 0 140 (dk_at dksX0_parts_0 4 rfl rfl)
theorem dX0_parts_7 : decode cX0_parts 7 = .ok (.astore_n 1, 1) := dk_76 (dk_at dksX0_parts_0 7 rfl rfl)
theorem dX0_parts_8 : decode cX0_parts 8 = .ok (.aload_n 0, 1) := dk_42 (dk_at dksX0_parts_0 8 rfl rfl)
theorem dX0_parts_9 : decode cX0_parts 9 = .ok (.getfield 66, 3) := dk_180 0 66 (dk_at dksX0_parts_0 9 rfl rfl)
theorem dX0_parts_12 : decode cX0_parts 12 = .ok (.aload_n 1, 1) := dk_43 (dk_at dksX0_parts_0 12 rfl rfl)
theorem dX0_parts_13 : decode cX0_parts 13 = .ok (.iconst 0, 1) := dk_3 (dk_at dksX0_parts_0 13 rfl rfl)
theorem dX0_parts_14 : decode cX0_parts 14 = .ok (.invokevirtual 141, 3) := dk_182 0 141 (dk_at dksX0_parts_0 14 rfl rfl)
theorem dX0_parts_17 : decode cX0_parts 17 = .ok (.aload_n 1, 1) := dk_43 (dk_at dksX0_parts_0 17 rfl rfl)
theorem dX0_parts_18 : decode cX0_parts 18 = .ok (.areturn, 1) := dk_176 (dk_at dksX0_parts_0 18 rfl rfl)
abbrev cX0_putIt : ByteArray := prog_1_method_25_code
def yX0_putIt : MethodName := ⟨RX0, "putIt", "(II)I"⟩
def dkwX0_putIt_1 : List UInt8 := [183, 0, 65, 182, 0, 188, 172]
abbrev dktX0_putIt_1 : List UInt8 := dkwX0_putIt_1 ++ []
def dkwX0_putIt_0 : List UInt8 := [42, 27, 182, 0, 173, 87, 28, 133, 9, 20, 0, 182, 184, 0, 184, 42, 27, 187, 0, 48, 89, 28]
abbrev dktX0_putIt_0 : List UInt8 := dkwX0_putIt_0 ++ dktX0_putIt_1
theorem dksX0_putIt_0 : cX0_putIt.data.toList.drop 0 = dktX0_putIt_0 := by decide +kernel
theorem dksX0_putIt_1 : cX0_putIt.data.toList.drop 22 = dktX0_putIt_1 := dk_seg dksX0_putIt_0 22 rfl rfl
theorem dX0_putIt_0 : decode cX0_putIt 0 = .ok (.aload_n 0, 1) := dk_42 (dk_at dksX0_putIt_0 0 rfl rfl)
theorem dX0_putIt_1 : decode cX0_putIt 1 = .ok (.iload_n 1, 1) := dk_27 (dk_at dksX0_putIt_0 1 rfl rfl)
theorem dX0_putIt_2 : decode cX0_putIt 2 = .ok (.invokevirtual 173, 3) := dk_182 0 173 (dk_at dksX0_putIt_0 2 rfl rfl)
theorem dX0_putIt_5 : decode cX0_putIt 5 = .ok (.pop, 1) := dk_87 (dk_at dksX0_putIt_0 5 rfl rfl)
theorem dX0_putIt_6 : decode cX0_putIt 6 = .ok (.iload_n 2, 1) := dk_28 (dk_at dksX0_putIt_0 6 rfl rfl)
theorem dX0_putIt_7 : decode cX0_putIt 7 = .ok (.i2l, 1) := dk_133 (dk_at dksX0_putIt_0 7 rfl rfl)
theorem dX0_putIt_8 : decode cX0_putIt 8 = .ok (.lconst 0, 1) := dk_9 (dk_at dksX0_putIt_0 8 rfl rfl)
theorem dX0_putIt_9 : decode cX0_putIt 9 = .ok (.ldc2_w 182, 3) := dk_20 0 182 (dk_at dksX0_putIt_0 9 rfl rfl)
theorem dX0_putIt_12 : decode cX0_putIt 12 = .ok (.invokestatic 184, 3) := dk_184 0 184 (dk_at dksX0_putIt_0 12 rfl rfl)
theorem dX0_putIt_15 : decode cX0_putIt 15 = .ok (.aload_n 0, 1) := dk_42 (dk_at dksX0_putIt_0 15 rfl rfl)
theorem dX0_putIt_16 : decode cX0_putIt 16 = .ok (.iload_n 1, 1) := dk_27 (dk_at dksX0_putIt_0 16 rfl rfl)
theorem dX0_putIt_17 : decode cX0_putIt 17 = .ok (.new 48, 3) := dk_187 0 48 (dk_at dksX0_putIt_0 17 rfl rfl)
theorem dX0_putIt_20 : decode cX0_putIt 20 = .ok (.dup, 1) := dk_89 (dk_at dksX0_putIt_0 20 rfl rfl)
theorem dX0_putIt_21 : decode cX0_putIt 21 = .ok (.iload_n 2, 1) := dk_28 (dk_at dksX0_putIt_0 21 rfl rfl)
theorem dX0_putIt_22 : decode cX0_putIt 22 = .ok (.invokespecial 65, 3) := dk_183 0 65 (dk_at dksX0_putIt_1 0 rfl rfl)
theorem dX0_putIt_25 : decode cX0_putIt 25 = .ok (.invokevirtual 188, 3) := dk_182 0 188 (dk_at dksX0_putIt_1 3 rfl rfl)
theorem dX0_putIt_28 : decode cX0_putIt 28 = .ok (.ireturn, 1) := dk_172 (dk_at dksX0_putIt_1 6 rfl rfl)
abbrev cX0_put : ByteArray := prog_1_method_24_code
def yX0_put : MethodName := ⟨RX0, "put", "(ILGathersAllFaults$Value;)I"⟩
def dkwX0_put_0 : List UInt8 := [42, 27, 182, 0, 173, 182, 0, 54, 62, 42, 42, 180, 0, 66, 27, 44, 184, 0, 165, 181, 0, 66, 29, 172]
abbrev dktX0_put_0 : List UInt8 := dkwX0_put_0 ++ []
theorem dksX0_put_0 : cX0_put.data.toList.drop 0 = dktX0_put_0 := by decide +kernel
theorem dX0_put_0 : decode cX0_put 0 = .ok (.aload_n 0, 1) := dk_42 (dk_at dksX0_put_0 0 rfl rfl)
theorem dX0_put_1 : decode cX0_put 1 = .ok (.iload_n 1, 1) := dk_27 (dk_at dksX0_put_0 1 rfl rfl)
theorem dX0_put_2 : decode cX0_put 2 = .ok (.invokevirtual 173, 3) := dk_182 0 173 (dk_at dksX0_put_0 2 rfl rfl)
theorem dX0_put_5 : decode cX0_put 5 = .ok (.invokevirtual 54, 3) := dk_182 0 54 (dk_at dksX0_put_0 5 rfl rfl)
theorem dX0_put_8 : decode cX0_put 8 = .ok (.istore_n 3, 1) := dk_62 (dk_at dksX0_put_0 8 rfl rfl)
theorem dX0_put_9 : decode cX0_put 9 = .ok (.aload_n 0, 1) := dk_42 (dk_at dksX0_put_0 9 rfl rfl)
theorem dX0_put_10 : decode cX0_put 10 = .ok (.aload_n 0, 1) := dk_42 (dk_at dksX0_put_0 10 rfl rfl)
theorem dX0_put_11 : decode cX0_put 11 = .ok (.getfield 66, 3) := dk_180 0 66 (dk_at dksX0_put_0 11 rfl rfl)
theorem dX0_put_14 : decode cX0_put 14 = .ok (.iload_n 1, 1) := dk_27 (dk_at dksX0_put_0 14 rfl rfl)
theorem dX0_put_15 : decode cX0_put 15 = .ok (.aload_n 2, 1) := dk_44 (dk_at dksX0_put_0 15 rfl rfl)
theorem dX0_put_16 : decode cX0_put 16 = .ok (.invokestatic 165, 3) := dk_184 0 165 (dk_at dksX0_put_0 16 rfl rfl)
theorem dX0_put_19 : decode cX0_put 19 = .ok (.putfield 66, 3) := dk_181 0 66 (dk_at dksX0_put_0 19 rfl rfl)
theorem dX0_put_22 : decode cX0_put 22 = .ok (.iload_n 3, 1) := dk_29 (dk_at dksX0_put_0 22 rfl rfl)
theorem dX0_put_23 : decode cX0_put 23 = .ok (.ireturn, 1) := dk_172 (dk_at dksX0_put_0 23 rfl rfl)
abbrev cX0_changed : ByteArray := prog_1_method_22_code
def yX0_changed : MethodName := ⟨RX0, "changed", "(LGathersAllFaults$Value;ILGathersAllFaults$Value;)LGathersAllFaults$Value;"⟩
def dkwX0_changed_2 : List UInt8 := [27, 21, 4, 112, 44, 184, 0, 165, 58, 5, 42, 29, 25, 5, 182, 0, 169, 176]
abbrev dktX0_changed_2 : List UInt8 := dkwX0_changed_2 ++ []
def dkwX0_changed_1 : List UInt8 := [16, 10, 104, 54, 4, 167, 255, 238, 27, 21, 4, 112, 154, 0, 7, 44, 167, 0, 16, 42, 29, 182, 0, 162]
abbrev dktX0_changed_1 : List UInt8 := dkwX0_changed_1 ++ dktX0_changed_2
def dkwX0_changed_0 : List UInt8 := [27, 154, 0, 5, 44, 176, 27, 62, 4, 54, 4, 29, 16, 9, 164, 0, 18, 29, 16, 10, 108, 62, 21, 4]
abbrev dktX0_changed_0 : List UInt8 := dkwX0_changed_0 ++ dktX0_changed_1
theorem dksX0_changed_0 : cX0_changed.data.toList.drop 0 = dktX0_changed_0 := by decide +kernel
theorem dksX0_changed_1 : cX0_changed.data.toList.drop 24 = dktX0_changed_1 := dk_seg dksX0_changed_0 24 rfl rfl
theorem dksX0_changed_2 : cX0_changed.data.toList.drop 48 = dktX0_changed_2 := dk_seg dksX0_changed_1 24 rfl rfl
theorem dX0_changed_0 : decode cX0_changed 0 = .ok (.iload_n 1, 1) := dk_27 (dk_at dksX0_changed_0 0 rfl rfl)
theorem dX0_changed_1 : decode cX0_changed 1 = .ok (.ifCond .ne 5, 3) := dk_154 0 5 (dk_at dksX0_changed_0 1 rfl rfl)
theorem dX0_changed_4 : decode cX0_changed 4 = .ok (.aload_n 2, 1) := dk_44 (dk_at dksX0_changed_0 4 rfl rfl)
theorem dX0_changed_5 : decode cX0_changed 5 = .ok (.areturn, 1) := dk_176 (dk_at dksX0_changed_0 5 rfl rfl)
theorem dX0_changed_6 : decode cX0_changed 6 = .ok (.iload_n 1, 1) := dk_27 (dk_at dksX0_changed_0 6 rfl rfl)
theorem dX0_changed_7 : decode cX0_changed 7 = .ok (.istore_n 3, 1) := dk_62 (dk_at dksX0_changed_0 7 rfl rfl)
theorem dX0_changed_8 : decode cX0_changed 8 = .ok (.iconst 1, 1) := dk_4 (dk_at dksX0_changed_0 8 rfl rfl)
theorem dX0_changed_9 : decode cX0_changed 9 = .ok (.istore 4, 2) := dk_54 4 (dk_at dksX0_changed_0 9 rfl rfl)
theorem dX0_changed_11 : decode cX0_changed 11 = .ok (.iload_n 3, 1) := dk_29 (dk_at dksX0_changed_0 11 rfl rfl)
theorem dX0_changed_12 : decode cX0_changed 12 = .ok (.bipush 9, 2) := dk_16 9 (dk_at dksX0_changed_0 12 rfl rfl)
theorem dX0_changed_14 : decode cX0_changed 14 = .ok (.if_icmp .le 18, 3) := dk_164 0 18 (dk_at dksX0_changed_0 14 rfl rfl)
theorem dX0_changed_17 : decode cX0_changed 17 = .ok (.iload_n 3, 1) := dk_29 (dk_at dksX0_changed_0 17 rfl rfl)
theorem dX0_changed_18 : decode cX0_changed 18 = .ok (.bipush 10, 2) := dk_16 10 (dk_at dksX0_changed_0 18 rfl rfl)
theorem dX0_changed_20 : decode cX0_changed 20 = .ok (.idiv, 1) := dk_108 (dk_at dksX0_changed_0 20 rfl rfl)
theorem dX0_changed_21 : decode cX0_changed 21 = .ok (.istore_n 3, 1) := dk_62 (dk_at dksX0_changed_0 21 rfl rfl)
theorem dX0_changed_22 : decode cX0_changed 22 = .ok (.iload 4, 2) := dk_21 4 (dk_at dksX0_changed_0 22 rfl rfl)
theorem dX0_changed_24 : decode cX0_changed 24 = .ok (.bipush 10, 2) := dk_16 10 (dk_at dksX0_changed_1 0 rfl rfl)
theorem dX0_changed_26 : decode cX0_changed 26 = .ok (.imul, 1) := dk_104 (dk_at dksX0_changed_1 2 rfl rfl)
theorem dX0_changed_27 : decode cX0_changed 27 = .ok (.istore 4, 2) := dk_54 4 (dk_at dksX0_changed_1 3 rfl rfl)
theorem dX0_changed_29 : decode cX0_changed 29 = .ok (.goto (-18), 3) := dk_167 255 238 (dk_at dksX0_changed_1 5 rfl rfl)
theorem dX0_changed_32 : decode cX0_changed 32 = .ok (.iload_n 1, 1) := dk_27 (dk_at dksX0_changed_1 8 rfl rfl)
theorem dX0_changed_33 : decode cX0_changed 33 = .ok (.iload 4, 2) := dk_21 4 (dk_at dksX0_changed_1 9 rfl rfl)
theorem dX0_changed_35 : decode cX0_changed 35 = .ok (.irem, 1) := dk_112 (dk_at dksX0_changed_1 11 rfl rfl)
theorem dX0_changed_36 : decode cX0_changed 36 = .ok (.ifCond .ne 7, 3) := dk_154 0 7 (dk_at dksX0_changed_1 12 rfl rfl)
theorem dX0_changed_39 : decode cX0_changed 39 = .ok (.aload_n 2, 1) := dk_44 (dk_at dksX0_changed_1 15 rfl rfl)
theorem dX0_changed_40 : decode cX0_changed 40 = .ok (.goto 16, 3) := dk_167 0 16 (dk_at dksX0_changed_1 16 rfl rfl)
theorem dX0_changed_43 : decode cX0_changed 43 = .ok (.aload_n 0, 1) := dk_42 (dk_at dksX0_changed_1 19 rfl rfl)
theorem dX0_changed_44 : decode cX0_changed 44 = .ok (.iload_n 3, 1) := dk_29 (dk_at dksX0_changed_1 20 rfl rfl)
theorem dX0_changed_45 : decode cX0_changed 45 = .ok (.invokevirtual 162, 3) := dk_182 0 162 (dk_at dksX0_changed_1 21 rfl rfl)
theorem dX0_changed_48 : decode cX0_changed 48 = .ok (.iload_n 1, 1) := dk_27 (dk_at dksX0_changed_2 0 rfl rfl)
theorem dX0_changed_49 : decode cX0_changed 49 = .ok (.iload 4, 2) := dk_21 4 (dk_at dksX0_changed_2 1 rfl rfl)
theorem dX0_changed_51 : decode cX0_changed 51 = .ok (.irem, 1) := dk_112 (dk_at dksX0_changed_2 3 rfl rfl)
theorem dX0_changed_52 : decode cX0_changed 52 = .ok (.aload_n 2, 1) := dk_44 (dk_at dksX0_changed_2 4 rfl rfl)
theorem dX0_changed_53 : decode cX0_changed 53 = .ok (.invokestatic 165, 3) := dk_184 0 165 (dk_at dksX0_changed_2 5 rfl rfl)
theorem dX0_changed_56 : decode cX0_changed 56 = .ok (.astore 5, 2) := dk_58 5 (dk_at dksX0_changed_2 8 rfl rfl)
theorem dX0_changed_58 : decode cX0_changed 58 = .ok (.aload_n 0, 1) := dk_42 (dk_at dksX0_changed_2 10 rfl rfl)
theorem dX0_changed_59 : decode cX0_changed 59 = .ok (.iload_n 3, 1) := dk_29 (dk_at dksX0_changed_2 11 rfl rfl)
theorem dX0_changed_60 : decode cX0_changed 60 = .ok (.aload 5, 2) := dk_25 5 (dk_at dksX0_changed_2 12 rfl rfl)
theorem dX0_changed_62 : decode cX0_changed 62 = .ok (.invokevirtual 169, 3) := dk_182 0 169 (dk_at dksX0_changed_2 14 rfl rfl)
theorem dX0_changed_65 : decode cX0_changed 65 = .ok (.areturn, 1) := dk_176 (dk_at dksX0_changed_2 17 rfl rfl)
abbrev cX0_found : ByteArray := prog_1_method_26_code
def yX0_found : MethodName := ⟨RX0, "found", "()LGathersAllFaults$Finding;"⟩
def dkwX0_found_0 : List UInt8 := [42, 180, 0, 73, 42, 180, 0, 66, 182, 0, 192, 176]
abbrev dktX0_found_0 : List UInt8 := dkwX0_found_0 ++ []
theorem dksX0_found_0 : cX0_found.data.toList.drop 0 = dktX0_found_0 := by decide +kernel
theorem dX0_found_0 : decode cX0_found 0 = .ok (.aload_n 0, 1) := dk_42 (dk_at dksX0_found_0 0 rfl rfl)
theorem dX0_found_1 : decode cX0_found 1 = .ok (.getfield 73, 3) := dk_180 0 73 (dk_at dksX0_found_0 1 rfl rfl)
theorem dX0_found_4 : decode cX0_found 4 = .ok (.aload_n 0, 1) := dk_42 (dk_at dksX0_found_0 4 rfl rfl)
theorem dX0_found_5 : decode cX0_found 5 = .ok (.getfield 66, 3) := dk_180 0 66 (dk_at dksX0_found_0 5 rfl rfl)
theorem dX0_found_8 : decode cX0_found 8 = .ok (.invokevirtual 192, 3) := dk_182 0 192 (dk_at dksX0_found_0 8 rfl rfl)
theorem dX0_found_11 : decode cX0_found 11 = .ok (.areturn, 1) := dk_176 (dk_at dksX0_found_0 11 rfl rfl)
abbrev cX0_faultTold : ByteArray := prog_1_method_30_code
def yX0_faultTold : MethodName := ⟨RX0, "faultTold", "(II)I"⟩
def dkwX0_faultTold_1 : List UInt8 := [180, 0, 234, 167, 0, 7, 45, 180, 0, 235, 172]
abbrev dktX0_faultTold_1 : List UInt8 := dkwX0_faultTold_1 ++ []
def dkwX0_faultTold_0 : List UInt8 := [28, 184, 0, 226, 42, 182, 0, 229, 180, 0, 221, 27, 182, 0, 152, 192, 0, 232, 78, 28, 154, 0, 10, 45]
abbrev dktX0_faultTold_0 : List UInt8 := dkwX0_faultTold_0 ++ dktX0_faultTold_1
theorem dksX0_faultTold_0 : cX0_faultTold.data.toList.drop 0 = dktX0_faultTold_0 := by decide +kernel
theorem dksX0_faultTold_1 : cX0_faultTold.data.toList.drop 24 = dktX0_faultTold_1 := dk_seg dksX0_faultTold_0 24 rfl rfl
theorem dX0_faultTold_0 : decode cX0_faultTold 0 = .ok (.iload_n 2, 1) := dk_28 (dk_at dksX0_faultTold_0 0 rfl rfl)
theorem dX0_faultTold_1 : decode cX0_faultTold 1 = .ok (.invokestatic 226, 3) := dk_184 0 226 (dk_at dksX0_faultTold_0 1 rfl rfl)
theorem dX0_faultTold_4 : decode cX0_faultTold 4 = .ok (.aload_n 0, 1) := dk_42 (dk_at dksX0_faultTold_0 4 rfl rfl)
theorem dX0_faultTold_5 : decode cX0_faultTold 5 = .ok (.invokevirtual 229, 3) := dk_182 0 229 (dk_at dksX0_faultTold_0 5 rfl rfl)
theorem dX0_faultTold_8 : decode cX0_faultTold 8 = .ok (.getfield 221, 3) := dk_180 0 221 (dk_at dksX0_faultTold_0 8 rfl rfl)
theorem dX0_faultTold_11 : decode cX0_faultTold 11 = .ok (.iload_n 1, 1) := dk_27 (dk_at dksX0_faultTold_0 11 rfl rfl)
theorem dX0_faultTold_12 : decode cX0_faultTold 12 = .ok (.invokevirtual 152, 3) := dk_182 0 152 (dk_at dksX0_faultTold_0 12 rfl rfl)
theorem dX0_faultTold_15 : decode cX0_faultTold 15 = .ok (.checkcast 232, 3) := dk_192 0 232 (dk_at dksX0_faultTold_0 15 rfl rfl)
theorem dX0_faultTold_18 : decode cX0_faultTold 18 = .ok (.astore_n 3, 1) := dk_78 (dk_at dksX0_faultTold_0 18 rfl rfl)
theorem dX0_faultTold_19 : decode cX0_faultTold 19 = .ok (.iload_n 2, 1) := dk_28 (dk_at dksX0_faultTold_0 19 rfl rfl)
theorem dX0_faultTold_20 : decode cX0_faultTold 20 = .ok (.ifCond .ne 10, 3) := dk_154 0 10 (dk_at dksX0_faultTold_0 20 rfl rfl)
theorem dX0_faultTold_23 : decode cX0_faultTold 23 = .ok (.aload_n 3, 1) := dk_45 (dk_at dksX0_faultTold_0 23 rfl rfl)
theorem dX0_faultTold_24 : decode cX0_faultTold 24 = .ok (.getfield 234, 3) := dk_180 0 234 (dk_at dksX0_faultTold_1 0 rfl rfl)
theorem dX0_faultTold_27 : decode cX0_faultTold 27 = .ok (.goto 7, 3) := dk_167 0 7 (dk_at dksX0_faultTold_1 3 rfl rfl)
theorem dX0_faultTold_30 : decode cX0_faultTold 30 = .ok (.aload_n 3, 1) := dk_45 (dk_at dksX0_faultTold_1 6 rfl rfl)
theorem dX0_faultTold_31 : decode cX0_faultTold 31 = .ok (.getfield 235, 3) := dk_180 0 235 (dk_at dksX0_faultTold_1 7 rfl rfl)
theorem dX0_faultTold_34 : decode cX0_faultTold 34 = .ok (.ireturn, 1) := dk_172 (dk_at dksX0_faultTold_1 10 rfl rfl)
abbrev cX0_mustBeBit : ByteArray := prog_1_method_50_code
def yX0_mustBeBit : MethodName := ⟨RX0, "mustBeBit", "(I)V"⟩
def dkwX0_mustBeBit_0 : List UInt8 := [26, 133, 9, 10, 184, 0, 13, 16, 254, 184, 0, 9, 177]
abbrev dktX0_mustBeBit_0 : List UInt8 := dkwX0_mustBeBit_0 ++ []
theorem dksX0_mustBeBit_0 : cX0_mustBeBit.data.toList.drop 0 = dktX0_mustBeBit_0 := by decide +kernel
theorem dX0_mustBeBit_0 : decode cX0_mustBeBit 0 = .ok (.iload_n 0, 1) := dk_26 (dk_at dksX0_mustBeBit_0 0 rfl rfl)
theorem dX0_mustBeBit_1 : decode cX0_mustBeBit 1 = .ok (.i2l, 1) := dk_133 (dk_at dksX0_mustBeBit_0 1 rfl rfl)
theorem dX0_mustBeBit_2 : decode cX0_mustBeBit 2 = .ok (.lconst 0, 1) := dk_9 (dk_at dksX0_mustBeBit_0 2 rfl rfl)
theorem dX0_mustBeBit_3 : decode cX0_mustBeBit 3 = .ok (.lconst 1, 1) := dk_10 (dk_at dksX0_mustBeBit_0 3 rfl rfl)
theorem dX0_mustBeBit_4 : decode cX0_mustBeBit 4 = .ok (.invokestatic 13, 3) := dk_184 0 13 (dk_at dksX0_mustBeBit_0 4 rfl rfl)
theorem dX0_mustBeBit_7 : decode cX0_mustBeBit 7 = .ok (.bipush (-2), 2) := dk_16 254 (dk_at dksX0_mustBeBit_0 7 rfl rfl)
theorem dX0_mustBeBit_9 : decode cX0_mustBeBit 9 = .ok (.invokestatic 9, 3) := dk_184 0 9 (dk_at dksX0_mustBeBit_0 9 rfl rfl)
theorem dX0_mustBeBit_12 : decode cX0_mustBeBit 12 = .ok (.return_, 1) := dk_177 (dk_at dksX0_mustBeBit_0 12 rfl rfl)
abbrev cX0_codedTold : ByteArray := prog_1_method_31_code
def yX0_codedTold : MethodName := ⟨RX0, "codedTold", "(I)I"⟩
def dkwX0_codedTold_2 : List UInt8 := [180, 0, 235, 27, 160, 0, 7, 4, 167, 0, 4, 3, 96, 62, 132, 4, 1, 167, 255, 220, 29, 172]
abbrev dktX0_codedTold_2 : List UInt8 := dkwX0_codedTold_2 ++ []
def dkwX0_codedTold_1 : List UInt8 := [3, 54, 4, 21, 4, 44, 180, 0, 149, 162, 0, 33, 29, 44, 21, 4, 182, 0, 152, 192, 0, 232]
abbrev dktX0_codedTold_1 : List UInt8 := dkwX0_codedTold_1 ++ dktX0_codedTold_2
def dkwX0_codedTold_0 : List UInt8 := [27, 133, 10, 20, 0, 238, 184, 0, 13, 16, 254, 184, 0, 9, 42, 182, 0, 229, 180, 0, 221, 77, 3, 62]
abbrev dktX0_codedTold_0 : List UInt8 := dkwX0_codedTold_0 ++ dktX0_codedTold_1
theorem dksX0_codedTold_0 : cX0_codedTold.data.toList.drop 0 = dktX0_codedTold_0 := by decide +kernel
theorem dksX0_codedTold_1 : cX0_codedTold.data.toList.drop 24 = dktX0_codedTold_1 := dk_seg dksX0_codedTold_0 24 rfl rfl
theorem dksX0_codedTold_2 : cX0_codedTold.data.toList.drop 46 = dktX0_codedTold_2 := dk_seg dksX0_codedTold_1 22 rfl rfl
theorem dX0_codedTold_0 : decode cX0_codedTold 0 = .ok (.iload_n 1, 1) := dk_27 (dk_at dksX0_codedTold_0 0 rfl rfl)
theorem dX0_codedTold_1 : decode cX0_codedTold 1 = .ok (.i2l, 1) := dk_133 (dk_at dksX0_codedTold_0 1 rfl rfl)
theorem dX0_codedTold_2 : decode cX0_codedTold 2 = .ok (.lconst 1, 1) := dk_10 (dk_at dksX0_codedTold_0 2 rfl rfl)
theorem dX0_codedTold_3 : decode cX0_codedTold 3 = .ok (.ldc2_w 238, 3) := dk_20 0 238 (dk_at dksX0_codedTold_0 3 rfl rfl)
theorem dX0_codedTold_6 : decode cX0_codedTold 6 = .ok (.invokestatic 13, 3) := dk_184 0 13 (dk_at dksX0_codedTold_0 6 rfl rfl)
theorem dX0_codedTold_9 : decode cX0_codedTold 9 = .ok (.bipush (-2), 2) := dk_16 254 (dk_at dksX0_codedTold_0 9 rfl rfl)
theorem dX0_codedTold_11 : decode cX0_codedTold 11 = .ok (.invokestatic 9, 3) := dk_184 0 9 (dk_at dksX0_codedTold_0 11 rfl rfl)
theorem dX0_codedTold_14 : decode cX0_codedTold 14 = .ok (.aload_n 0, 1) := dk_42 (dk_at dksX0_codedTold_0 14 rfl rfl)
theorem dX0_codedTold_15 : decode cX0_codedTold 15 = .ok (.invokevirtual 229, 3) := dk_182 0 229 (dk_at dksX0_codedTold_0 15 rfl rfl)
theorem dX0_codedTold_18 : decode cX0_codedTold 18 = .ok (.getfield 221, 3) := dk_180 0 221 (dk_at dksX0_codedTold_0 18 rfl rfl)
theorem dX0_codedTold_21 : decode cX0_codedTold 21 = .ok (.astore_n 2, 1) := dk_77 (dk_at dksX0_codedTold_0 21 rfl rfl)
theorem dX0_codedTold_22 : decode cX0_codedTold 22 = .ok (.iconst 0, 1) := dk_3 (dk_at dksX0_codedTold_0 22 rfl rfl)
theorem dX0_codedTold_23 : decode cX0_codedTold 23 = .ok (.istore_n 3, 1) := dk_62 (dk_at dksX0_codedTold_0 23 rfl rfl)
theorem dX0_codedTold_24 : decode cX0_codedTold 24 = .ok (.iconst 0, 1) := dk_3 (dk_at dksX0_codedTold_1 0 rfl rfl)
theorem dX0_codedTold_25 : decode cX0_codedTold 25 = .ok (.istore 4, 2) := dk_54 4 (dk_at dksX0_codedTold_1 1 rfl rfl)
theorem dX0_codedTold_27 : decode cX0_codedTold 27 = .ok (.iload 4, 2) := dk_21 4 (dk_at dksX0_codedTold_1 3 rfl rfl)
theorem dX0_codedTold_29 : decode cX0_codedTold 29 = .ok (.aload_n 2, 1) := dk_44 (dk_at dksX0_codedTold_1 5 rfl rfl)
theorem dX0_codedTold_30 : decode cX0_codedTold 30 = .ok (.getfield 149, 3) := dk_180 0 149 (dk_at dksX0_codedTold_1 6 rfl rfl)
theorem dX0_codedTold_33 : decode cX0_codedTold 33 = .ok (.if_icmp .ge 33, 3) := dk_162 0 33 (dk_at dksX0_codedTold_1 9 rfl rfl)
theorem dX0_codedTold_36 : decode cX0_codedTold 36 = .ok (.iload_n 3, 1) := dk_29 (dk_at dksX0_codedTold_1 12 rfl rfl)
theorem dX0_codedTold_37 : decode cX0_codedTold 37 = .ok (.aload_n 2, 1) := dk_44 (dk_at dksX0_codedTold_1 13 rfl rfl)
theorem dX0_codedTold_38 : decode cX0_codedTold 38 = .ok (.iload 4, 2) := dk_21 4 (dk_at dksX0_codedTold_1 14 rfl rfl)
theorem dX0_codedTold_40 : decode cX0_codedTold 40 = .ok (.invokevirtual 152, 3) := dk_182 0 152 (dk_at dksX0_codedTold_1 16 rfl rfl)
theorem dX0_codedTold_43 : decode cX0_codedTold 43 = .ok (.checkcast 232, 3) := dk_192 0 232 (dk_at dksX0_codedTold_1 19 rfl rfl)
theorem dX0_codedTold_46 : decode cX0_codedTold 46 = .ok (.getfield 235, 3) := dk_180 0 235 (dk_at dksX0_codedTold_2 0 rfl rfl)
theorem dX0_codedTold_49 : decode cX0_codedTold 49 = .ok (.iload_n 1, 1) := dk_27 (dk_at dksX0_codedTold_2 3 rfl rfl)
theorem dX0_codedTold_50 : decode cX0_codedTold 50 = .ok (.if_icmp .ne 7, 3) := dk_160 0 7 (dk_at dksX0_codedTold_2 4 rfl rfl)
theorem dX0_codedTold_53 : decode cX0_codedTold 53 = .ok (.iconst 1, 1) := dk_4 (dk_at dksX0_codedTold_2 7 rfl rfl)
theorem dX0_codedTold_54 : decode cX0_codedTold 54 = .ok (.goto 4, 3) := dk_167 0 4 (dk_at dksX0_codedTold_2 8 rfl rfl)
theorem dX0_codedTold_57 : decode cX0_codedTold 57 = .ok (.iconst 0, 1) := dk_3 (dk_at dksX0_codedTold_2 11 rfl rfl)
theorem dX0_codedTold_58 : decode cX0_codedTold 58 = .ok (.iadd, 1) := dk_96 (dk_at dksX0_codedTold_2 12 rfl rfl)
theorem dX0_codedTold_59 : decode cX0_codedTold 59 = .ok (.istore_n 3, 1) := dk_62 (dk_at dksX0_codedTold_2 13 rfl rfl)
theorem dX0_codedTold_60 : decode cX0_codedTold 60 = .ok (.iinc 4 1, 3) := dk_132 4 1 (dk_at dksX0_codedTold_2 14 rfl rfl)
theorem dX0_codedTold_63 : decode cX0_codedTold 63 = .ok (.goto (-36), 3) := dk_167 255 220 (dk_at dksX0_codedTold_2 17 rfl rfl)
theorem dX0_codedTold_66 : decode cX0_codedTold 66 = .ok (.iload_n 3, 1) := dk_29 (dk_at dksX0_codedTold_2 20 rfl rfl)
theorem dX0_codedTold_67 : decode cX0_codedTold 67 = .ok (.ireturn, 1) := dk_172 (dk_at dksX0_codedTold_2 21 rfl rfl)
abbrev cX0_belowTold : ByteArray := prog_1_method_32_code
def yX0_belowTold : MethodName := ⟨RX0, "belowTold", "(I)I"⟩
def dkwX0_belowTold_0 : List UInt8 := [27, 133, 9, 20, 0, 240, 184, 0, 184, 42, 182, 0, 229, 27, 182, 0, 242, 172]
abbrev dktX0_belowTold_0 : List UInt8 := dkwX0_belowTold_0 ++ []
theorem dksX0_belowTold_0 : cX0_belowTold.data.toList.drop 0 = dktX0_belowTold_0 := by decide +kernel
theorem dX0_belowTold_0 : decode cX0_belowTold 0 = .ok (.iload_n 1, 1) := dk_27 (dk_at dksX0_belowTold_0 0 rfl rfl)
theorem dX0_belowTold_1 : decode cX0_belowTold 1 = .ok (.i2l, 1) := dk_133 (dk_at dksX0_belowTold_0 1 rfl rfl)
theorem dX0_belowTold_2 : decode cX0_belowTold 2 = .ok (.lconst 0, 1) := dk_9 (dk_at dksX0_belowTold_0 2 rfl rfl)
theorem dX0_belowTold_3 : decode cX0_belowTold 3 = .ok (.ldc2_w 240, 3) := dk_20 0 240 (dk_at dksX0_belowTold_0 3 rfl rfl)
theorem dX0_belowTold_6 : decode cX0_belowTold 6 = .ok (.invokestatic 184, 3) := dk_184 0 184 (dk_at dksX0_belowTold_0 6 rfl rfl)
theorem dX0_belowTold_9 : decode cX0_belowTold 9 = .ok (.aload_n 0, 1) := dk_42 (dk_at dksX0_belowTold_0 9 rfl rfl)
theorem dX0_belowTold_10 : decode cX0_belowTold 10 = .ok (.invokevirtual 229, 3) := dk_182 0 229 (dk_at dksX0_belowTold_0 10 rfl rfl)
theorem dX0_belowTold_13 : decode cX0_belowTold 13 = .ok (.iload_n 1, 1) := dk_27 (dk_at dksX0_belowTold_0 13 rfl rfl)
theorem dX0_belowTold_14 : decode cX0_belowTold 14 = .ok (.invokevirtual 242, 3) := dk_182 0 242 (dk_at dksX0_belowTold_0 14 rfl rfl)
theorem dX0_belowTold_17 : decode cX0_belowTold 17 = .ok (.ireturn, 1) := dk_172 (dk_at dksX0_belowTold_0 17 rfl rfl)
abbrev cX0_limitedTold : ByteArray := prog_1_method_33_code
def yX0_limitedTold : MethodName := ⟨RX0, "limitedTold", "(II)I"⟩
def dkwX0_limitedTold_2 : List UInt8 := [167, 0, 17, 45, 21, 4, 4, 100, 182, 0, 152, 192, 0, 232, 182, 0, 252, 172]
abbrev dktX0_limitedTold_2 : List UInt8 := dkwX0_limitedTold_2 ++ []
def dkwX0_limitedTold_1 : List UInt8 := [180, 0, 149, 184, 0, 246, 54, 4, 28, 154, 0, 8, 21, 4, 167, 0, 27, 21, 4, 154, 0, 8, 16, 247]
abbrev dktX0_limitedTold_1 : List UInt8 := dkwX0_limitedTold_1 ++ dktX0_limitedTold_2
def dkwX0_limitedTold_0 : List UInt8 := [27, 133, 9, 20, 0, 182, 184, 0, 184, 28, 184, 0, 226, 42, 182, 0, 229, 180, 0, 221, 78, 27, 45]
abbrev dktX0_limitedTold_0 : List UInt8 := dkwX0_limitedTold_0 ++ dktX0_limitedTold_1
theorem dksX0_limitedTold_0 : cX0_limitedTold.data.toList.drop 0 = dktX0_limitedTold_0 := by decide +kernel
theorem dksX0_limitedTold_1 : cX0_limitedTold.data.toList.drop 23 = dktX0_limitedTold_1 := dk_seg dksX0_limitedTold_0 23 rfl rfl
theorem dksX0_limitedTold_2 : cX0_limitedTold.data.toList.drop 47 = dktX0_limitedTold_2 := dk_seg dksX0_limitedTold_1 24 rfl rfl
theorem dX0_limitedTold_0 : decode cX0_limitedTold 0 = .ok (.iload_n 1, 1) := dk_27 (dk_at dksX0_limitedTold_0 0 rfl rfl)
theorem dX0_limitedTold_1 : decode cX0_limitedTold 1 = .ok (.i2l, 1) := dk_133 (dk_at dksX0_limitedTold_0 1 rfl rfl)
theorem dX0_limitedTold_2 : decode cX0_limitedTold 2 = .ok (.lconst 0, 1) := dk_9 (dk_at dksX0_limitedTold_0 2 rfl rfl)
theorem dX0_limitedTold_3 : decode cX0_limitedTold 3 = .ok (.ldc2_w 182, 3) := dk_20 0 182 (dk_at dksX0_limitedTold_0 3 rfl rfl)
theorem dX0_limitedTold_6 : decode cX0_limitedTold 6 = .ok (.invokestatic 184, 3) := dk_184 0 184 (dk_at dksX0_limitedTold_0 6 rfl rfl)
theorem dX0_limitedTold_9 : decode cX0_limitedTold 9 = .ok (.iload_n 2, 1) := dk_28 (dk_at dksX0_limitedTold_0 9 rfl rfl)
theorem dX0_limitedTold_10 : decode cX0_limitedTold 10 = .ok (.invokestatic 226, 3) := dk_184 0 226 (dk_at dksX0_limitedTold_0 10 rfl rfl)
theorem dX0_limitedTold_13 : decode cX0_limitedTold 13 = .ok (.aload_n 0, 1) := dk_42 (dk_at dksX0_limitedTold_0 13 rfl rfl)
theorem dX0_limitedTold_14 : decode cX0_limitedTold 14 = .ok (.invokevirtual 229, 3) := dk_182 0 229 (dk_at dksX0_limitedTold_0 14 rfl rfl)
theorem dX0_limitedTold_17 : decode cX0_limitedTold 17 = .ok (.getfield 221, 3) := dk_180 0 221 (dk_at dksX0_limitedTold_0 17 rfl rfl)
theorem dX0_limitedTold_20 : decode cX0_limitedTold 20 = .ok (.astore_n 3, 1) := dk_78 (dk_at dksX0_limitedTold_0 20 rfl rfl)
theorem dX0_limitedTold_21 : decode cX0_limitedTold 21 = .ok (.iload_n 1, 1) := dk_27 (dk_at dksX0_limitedTold_0 21 rfl rfl)
theorem dX0_limitedTold_22 : decode cX0_limitedTold 22 = .ok (.aload_n 3, 1) := dk_45 (dk_at dksX0_limitedTold_0 22 rfl rfl)
theorem dX0_limitedTold_23 : decode cX0_limitedTold 23 = .ok (.getfield 149, 3) := dk_180 0 149 (dk_at dksX0_limitedTold_1 0 rfl rfl)
theorem dX0_limitedTold_26 : decode cX0_limitedTold 26 = .ok (.invokestatic 246, 3) := dk_184 0 246 (dk_at dksX0_limitedTold_1 3 rfl rfl)
theorem dX0_limitedTold_29 : decode cX0_limitedTold 29 = .ok (.istore 4, 2) := dk_54 4 (dk_at dksX0_limitedTold_1 6 rfl rfl)
theorem dX0_limitedTold_31 : decode cX0_limitedTold 31 = .ok (.iload_n 2, 1) := dk_28 (dk_at dksX0_limitedTold_1 8 rfl rfl)
theorem dX0_limitedTold_32 : decode cX0_limitedTold 32 = .ok (.ifCond .ne 8, 3) := dk_154 0 8 (dk_at dksX0_limitedTold_1 9 rfl rfl)
theorem dX0_limitedTold_35 : decode cX0_limitedTold 35 = .ok (.iload 4, 2) := dk_21 4 (dk_at dksX0_limitedTold_1 12 rfl rfl)
theorem dX0_limitedTold_37 : decode cX0_limitedTold 37 = .ok (.goto 27, 3) := dk_167 0 27 (dk_at dksX0_limitedTold_1 14 rfl rfl)
theorem dX0_limitedTold_40 : decode cX0_limitedTold 40 = .ok (.iload 4, 2) := dk_21 4 (dk_at dksX0_limitedTold_1 17 rfl rfl)
theorem dX0_limitedTold_42 : decode cX0_limitedTold 42 = .ok (.ifCond .ne 8, 3) := dk_154 0 8 (dk_at dksX0_limitedTold_1 19 rfl rfl)
theorem dX0_limitedTold_45 : decode cX0_limitedTold 45 = .ok (.bipush (-9), 2) := dk_16 247 (dk_at dksX0_limitedTold_1 22 rfl rfl)
theorem dX0_limitedTold_47 : decode cX0_limitedTold 47 = .ok (.goto 17, 3) := dk_167 0 17 (dk_at dksX0_limitedTold_2 0 rfl rfl)
theorem dX0_limitedTold_50 : decode cX0_limitedTold 50 = .ok (.aload_n 3, 1) := dk_45 (dk_at dksX0_limitedTold_2 3 rfl rfl)
theorem dX0_limitedTold_51 : decode cX0_limitedTold 51 = .ok (.iload 4, 2) := dk_21 4 (dk_at dksX0_limitedTold_2 4 rfl rfl)
theorem dX0_limitedTold_53 : decode cX0_limitedTold 53 = .ok (.iconst 1, 1) := dk_4 (dk_at dksX0_limitedTold_2 6 rfl rfl)
theorem dX0_limitedTold_54 : decode cX0_limitedTold 54 = .ok (.isub, 1) := dk_100 (dk_at dksX0_limitedTold_2 7 rfl rfl)
theorem dX0_limitedTold_55 : decode cX0_limitedTold 55 = .ok (.invokevirtual 152, 3) := dk_182 0 152 (dk_at dksX0_limitedTold_2 8 rfl rfl)
theorem dX0_limitedTold_58 : decode cX0_limitedTold 58 = .ok (.checkcast 232, 3) := dk_192 0 232 (dk_at dksX0_limitedTold_2 11 rfl rfl)
theorem dX0_limitedTold_61 : decode cX0_limitedTold 61 = .ok (.invokevirtual 252, 3) := dk_182 0 252 (dk_at dksX0_limitedTold_2 14 rfl rfl)
theorem dX0_limitedTold_64 : decode cX0_limitedTold 64 = .ok (.ireturn, 1) := dk_172 (dk_at dksX0_limitedTold_2 17 rfl rfl)
abbrev cX0_totalTold : ByteArray := prog_1_method_52_code
def yX0_totalTold : MethodName := ⟨RX0, "totalTold", "()I"⟩
def dkwX0_totalTold_0 : List UInt8 := [42, 182, 0, 229, 182, 1, 37, 153, 0, 13, 42, 180, 0, 66, 182, 1, 98, 167, 0, 5, 16, 247, 172]
abbrev dktX0_totalTold_0 : List UInt8 := dkwX0_totalTold_0 ++ []
theorem dksX0_totalTold_0 : cX0_totalTold.data.toList.drop 0 = dktX0_totalTold_0 := by decide +kernel
theorem dX0_totalTold_0 : decode cX0_totalTold 0 = .ok (.aload_n 0, 1) := dk_42 (dk_at dksX0_totalTold_0 0 rfl rfl)
theorem dX0_totalTold_1 : decode cX0_totalTold 1 = .ok (.invokevirtual 229, 3) := dk_182 0 229 (dk_at dksX0_totalTold_0 1 rfl rfl)
theorem dX0_totalTold_4 : decode cX0_totalTold 4 = .ok (.invokevirtual 293, 3) := dk_182 1 37 (dk_at dksX0_totalTold_0 4 rfl rfl)
theorem dX0_totalTold_7 : decode cX0_totalTold 7 = .ok (.ifCond .eq 13, 3) := dk_153 0 13 (dk_at dksX0_totalTold_0 7 rfl rfl)
theorem dX0_totalTold_10 : decode cX0_totalTold 10 = .ok (.aload_n 0, 1) := dk_42 (dk_at dksX0_totalTold_0 10 rfl rfl)
theorem dX0_totalTold_11 : decode cX0_totalTold 11 = .ok (.getfield 66, 3) := dk_180 0 66 (dk_at dksX0_totalTold_0 11 rfl rfl)
theorem dX0_totalTold_14 : decode cX0_totalTold 14 = .ok (.invokevirtual 354, 3) := dk_182 1 98 (dk_at dksX0_totalTold_0 14 rfl rfl)
theorem dX0_totalTold_17 : decode cX0_totalTold 17 = .ok (.goto 5, 3) := dk_167 0 5 (dk_at dksX0_totalTold_0 17 rfl rfl)
theorem dX0_totalTold_20 : decode cX0_totalTold 20 = .ok (.bipush (-9), 2) := dk_16 247 (dk_at dksX0_totalTold_0 20 rfl rfl)
theorem dX0_totalTold_22 : decode cX0_totalTold 22 = .ok (.ireturn, 1) := dk_172 (dk_at dksX0_totalTold_0 22 rfl rfl)
abbrev cX0_sameTold : ByteArray := prog_1_method_53_code
def yX0_sameTold : MethodName := ⟨RX0, "sameTold", "(II)I"⟩
def dkwX0_sameTold_0 : List UInt8 := [42, 27, 182, 0, 173, 78, 45, 42, 28, 182, 0, 173, 182, 1, 101, 153, 0, 7, 4, 167, 0, 4, 3, 172]
abbrev dktX0_sameTold_0 : List UInt8 := dkwX0_sameTold_0 ++ []
theorem dksX0_sameTold_0 : cX0_sameTold.data.toList.drop 0 = dktX0_sameTold_0 := by decide +kernel
theorem dX0_sameTold_0 : decode cX0_sameTold 0 = .ok (.aload_n 0, 1) := dk_42 (dk_at dksX0_sameTold_0 0 rfl rfl)
theorem dX0_sameTold_1 : decode cX0_sameTold 1 = .ok (.iload_n 1, 1) := dk_27 (dk_at dksX0_sameTold_0 1 rfl rfl)
theorem dX0_sameTold_2 : decode cX0_sameTold 2 = .ok (.invokevirtual 173, 3) := dk_182 0 173 (dk_at dksX0_sameTold_0 2 rfl rfl)
theorem dX0_sameTold_5 : decode cX0_sameTold 5 = .ok (.astore_n 3, 1) := dk_78 (dk_at dksX0_sameTold_0 5 rfl rfl)
theorem dX0_sameTold_6 : decode cX0_sameTold 6 = .ok (.aload_n 3, 1) := dk_45 (dk_at dksX0_sameTold_0 6 rfl rfl)
theorem dX0_sameTold_7 : decode cX0_sameTold 7 = .ok (.aload_n 0, 1) := dk_42 (dk_at dksX0_sameTold_0 7 rfl rfl)
theorem dX0_sameTold_8 : decode cX0_sameTold 8 = .ok (.iload_n 2, 1) := dk_28 (dk_at dksX0_sameTold_0 8 rfl rfl)
theorem dX0_sameTold_9 : decode cX0_sameTold 9 = .ok (.invokevirtual 173, 3) := dk_182 0 173 (dk_at dksX0_sameTold_0 9 rfl rfl)
theorem dX0_sameTold_12 : decode cX0_sameTold 12 = .ok (.invokevirtual 357, 3) := dk_182 1 101 (dk_at dksX0_sameTold_0 12 rfl rfl)
theorem dX0_sameTold_15 : decode cX0_sameTold 15 = .ok (.ifCond .eq 7, 3) := dk_153 0 7 (dk_at dksX0_sameTold_0 15 rfl rfl)
theorem dX0_sameTold_18 : decode cX0_sameTold 18 = .ok (.iconst 1, 1) := dk_4 (dk_at dksX0_sameTold_0 18 rfl rfl)
theorem dX0_sameTold_19 : decode cX0_sameTold 19 = .ok (.goto 4, 3) := dk_167 0 4 (dk_at dksX0_sameTold_0 19 rfl rfl)
theorem dX0_sameTold_22 : decode cX0_sameTold 22 = .ok (.iconst 0, 1) := dk_3 (dk_at dksX0_sameTold_0 22 rfl rfl)
theorem dX0_sameTold_23 : decode cX0_sameTold 23 = .ok (.ireturn, 1) := dk_172 (dk_at dksX0_sameTold_0 23 rfl rfl)
abbrev cX0_ofRest : ByteArray := prog_1_method_59_code
def yX0_ofRest : MethodName := ⟨RX0, "ofRest", "(IIII)I"⟩
def dkwX0_ofRest_4 : List UInt8 := [182, 1, 174, 172, 42, 28, 29, 21, 4, 182, 1, 177, 172, 42, 182, 1, 180, 172, 42, 182, 1, 183, 172]
abbrev dktX0_ofRest_4 : List UInt8 := dkwX0_ofRest_4 ++ []
def dkwX0_ofRest_3 : List UInt8 := [28, 29, 182, 1, 162, 172, 42, 28, 182, 1, 165, 172, 42, 28, 182, 1, 168, 172, 42, 182, 1, 171, 172, 42]
abbrev dktX0_ofRest_3 : List UInt8 := dkwX0_ofRest_3 ++ dktX0_ofRest_4
def dkwX0_ofRest_2 : List UInt8 := [42, 182, 1, 150, 172, 42, 28, 182, 1, 153, 172, 42, 28, 182, 1, 156, 172, 42, 28, 182, 1, 159, 172, 42]
abbrev dktX0_ofRest_2 : List UInt8 := dkwX0_ofRest_2 ++ dktX0_ofRest_3
def dkwX0_ofRest_1 : List UInt8 := [170, 0, 0, 0, 0, 0, 125, 0, 0, 0, 16, 0, 0, 0, 26, 0, 0, 0, 59, 0, 0, 0, 64, 0, 0, 0, 70, 0, 0, 0, 76, 0, 0, 0, 82, 0, 0, 0, 89, 0, 0, 0, 95, 0, 0, 0, 101, 0, 0, 0, 106, 0, 0, 0, 111, 0, 0, 0, 120]
abbrev dktX0_ofRest_1 : List UInt8 := dkwX0_ofRest_1 ++ dktX0_ofRest_2
def dkwX0_ofRest_0 : List UInt8 := [27]
abbrev dktX0_ofRest_0 : List UInt8 := dkwX0_ofRest_0 ++ dktX0_ofRest_1
theorem dksX0_ofRest_0 : cX0_ofRest.data.toList.drop 0 = dktX0_ofRest_0 := by decide +kernel
theorem dksX0_ofRest_1 : cX0_ofRest.data.toList.drop 1 = dktX0_ofRest_1 := dk_seg dksX0_ofRest_0 1 rfl rfl
theorem dksX0_ofRest_2 : cX0_ofRest.data.toList.drop 60 = dktX0_ofRest_2 := dk_seg dksX0_ofRest_1 59 rfl rfl
theorem dksX0_ofRest_3 : cX0_ofRest.data.toList.drop 84 = dktX0_ofRest_3 := dk_seg dksX0_ofRest_2 24 rfl rfl
theorem dksX0_ofRest_4 : cX0_ofRest.data.toList.drop 108 = dktX0_ofRest_4 := dk_seg dksX0_ofRest_3 24 rfl rfl
theorem dX0_ofRest_0 : decode cX0_ofRest 0 = .ok (.iload_n 1, 1) := dk_27 (dk_at dksX0_ofRest_0 0 rfl rfl)
theorem dX0_ofRest_1 : decode cX0_ofRest 1 = .ok (.tableswitch 125 16 26 #[59, 64, 70, 76, 82, 89, 95, 101, 106, 111, 120], 59) := by decide +kernel
theorem dX0_ofRest_60 : decode cX0_ofRest 60 = .ok (.aload_n 0, 1) := dk_42 (dk_at dksX0_ofRest_2 0 rfl rfl)
theorem dX0_ofRest_61 : decode cX0_ofRest 61 = .ok (.invokevirtual 406, 3) := dk_182 1 150 (dk_at dksX0_ofRest_2 1 rfl rfl)
theorem dX0_ofRest_64 : decode cX0_ofRest 64 = .ok (.ireturn, 1) := dk_172 (dk_at dksX0_ofRest_2 4 rfl rfl)
theorem dX0_ofRest_65 : decode cX0_ofRest 65 = .ok (.aload_n 0, 1) := dk_42 (dk_at dksX0_ofRest_2 5 rfl rfl)
theorem dX0_ofRest_66 : decode cX0_ofRest 66 = .ok (.iload_n 2, 1) := dk_28 (dk_at dksX0_ofRest_2 6 rfl rfl)
theorem dX0_ofRest_67 : decode cX0_ofRest 67 = .ok (.invokevirtual 409, 3) := dk_182 1 153 (dk_at dksX0_ofRest_2 7 rfl rfl)
theorem dX0_ofRest_70 : decode cX0_ofRest 70 = .ok (.ireturn, 1) := dk_172 (dk_at dksX0_ofRest_2 10 rfl rfl)
theorem dX0_ofRest_71 : decode cX0_ofRest 71 = .ok (.aload_n 0, 1) := dk_42 (dk_at dksX0_ofRest_2 11 rfl rfl)
theorem dX0_ofRest_72 : decode cX0_ofRest 72 = .ok (.iload_n 2, 1) := dk_28 (dk_at dksX0_ofRest_2 12 rfl rfl)
theorem dX0_ofRest_73 : decode cX0_ofRest 73 = .ok (.invokevirtual 412, 3) := dk_182 1 156 (dk_at dksX0_ofRest_2 13 rfl rfl)
theorem dX0_ofRest_76 : decode cX0_ofRest 76 = .ok (.ireturn, 1) := dk_172 (dk_at dksX0_ofRest_2 16 rfl rfl)
theorem dX0_ofRest_77 : decode cX0_ofRest 77 = .ok (.aload_n 0, 1) := dk_42 (dk_at dksX0_ofRest_2 17 rfl rfl)
theorem dX0_ofRest_78 : decode cX0_ofRest 78 = .ok (.iload_n 2, 1) := dk_28 (dk_at dksX0_ofRest_2 18 rfl rfl)
theorem dX0_ofRest_79 : decode cX0_ofRest 79 = .ok (.invokevirtual 415, 3) := dk_182 1 159 (dk_at dksX0_ofRest_2 19 rfl rfl)
theorem dX0_ofRest_82 : decode cX0_ofRest 82 = .ok (.ireturn, 1) := dk_172 (dk_at dksX0_ofRest_2 22 rfl rfl)
theorem dX0_ofRest_83 : decode cX0_ofRest 83 = .ok (.aload_n 0, 1) := dk_42 (dk_at dksX0_ofRest_2 23 rfl rfl)
theorem dX0_ofRest_84 : decode cX0_ofRest 84 = .ok (.iload_n 2, 1) := dk_28 (dk_at dksX0_ofRest_3 0 rfl rfl)
theorem dX0_ofRest_85 : decode cX0_ofRest 85 = .ok (.iload_n 3, 1) := dk_29 (dk_at dksX0_ofRest_3 1 rfl rfl)
theorem dX0_ofRest_86 : decode cX0_ofRest 86 = .ok (.invokevirtual 418, 3) := dk_182 1 162 (dk_at dksX0_ofRest_3 2 rfl rfl)
theorem dX0_ofRest_89 : decode cX0_ofRest 89 = .ok (.ireturn, 1) := dk_172 (dk_at dksX0_ofRest_3 5 rfl rfl)
theorem dX0_ofRest_90 : decode cX0_ofRest 90 = .ok (.aload_n 0, 1) := dk_42 (dk_at dksX0_ofRest_3 6 rfl rfl)
theorem dX0_ofRest_91 : decode cX0_ofRest 91 = .ok (.iload_n 2, 1) := dk_28 (dk_at dksX0_ofRest_3 7 rfl rfl)
theorem dX0_ofRest_92 : decode cX0_ofRest 92 = .ok (.invokevirtual 421, 3) := dk_182 1 165 (dk_at dksX0_ofRest_3 8 rfl rfl)
theorem dX0_ofRest_95 : decode cX0_ofRest 95 = .ok (.ireturn, 1) := dk_172 (dk_at dksX0_ofRest_3 11 rfl rfl)
theorem dX0_ofRest_96 : decode cX0_ofRest 96 = .ok (.aload_n 0, 1) := dk_42 (dk_at dksX0_ofRest_3 12 rfl rfl)
theorem dX0_ofRest_97 : decode cX0_ofRest 97 = .ok (.iload_n 2, 1) := dk_28 (dk_at dksX0_ofRest_3 13 rfl rfl)
theorem dX0_ofRest_98 : decode cX0_ofRest 98 = .ok (.invokevirtual 424, 3) := dk_182 1 168 (dk_at dksX0_ofRest_3 14 rfl rfl)
theorem dX0_ofRest_101 : decode cX0_ofRest 101 = .ok (.ireturn, 1) := dk_172 (dk_at dksX0_ofRest_3 17 rfl rfl)
theorem dX0_ofRest_102 : decode cX0_ofRest 102 = .ok (.aload_n 0, 1) := dk_42 (dk_at dksX0_ofRest_3 18 rfl rfl)
theorem dX0_ofRest_103 : decode cX0_ofRest 103 = .ok (.invokevirtual 427, 3) := dk_182 1 171 (dk_at dksX0_ofRest_3 19 rfl rfl)
theorem dX0_ofRest_106 : decode cX0_ofRest 106 = .ok (.ireturn, 1) := dk_172 (dk_at dksX0_ofRest_3 22 rfl rfl)
theorem dX0_ofRest_107 : decode cX0_ofRest 107 = .ok (.aload_n 0, 1) := dk_42 (dk_at dksX0_ofRest_3 23 rfl rfl)
theorem dX0_ofRest_108 : decode cX0_ofRest 108 = .ok (.invokevirtual 430, 3) := dk_182 1 174 (dk_at dksX0_ofRest_4 0 rfl rfl)
theorem dX0_ofRest_111 : decode cX0_ofRest 111 = .ok (.ireturn, 1) := dk_172 (dk_at dksX0_ofRest_4 3 rfl rfl)
theorem dX0_ofRest_112 : decode cX0_ofRest 112 = .ok (.aload_n 0, 1) := dk_42 (dk_at dksX0_ofRest_4 4 rfl rfl)
theorem dX0_ofRest_113 : decode cX0_ofRest 113 = .ok (.iload_n 2, 1) := dk_28 (dk_at dksX0_ofRest_4 5 rfl rfl)
theorem dX0_ofRest_114 : decode cX0_ofRest 114 = .ok (.iload_n 3, 1) := dk_29 (dk_at dksX0_ofRest_4 6 rfl rfl)
theorem dX0_ofRest_115 : decode cX0_ofRest 115 = .ok (.iload 4, 2) := dk_21 4 (dk_at dksX0_ofRest_4 7 rfl rfl)
theorem dX0_ofRest_117 : decode cX0_ofRest 117 = .ok (.invokevirtual 433, 3) := dk_182 1 177 (dk_at dksX0_ofRest_4 9 rfl rfl)
theorem dX0_ofRest_120 : decode cX0_ofRest 120 = .ok (.ireturn, 1) := dk_172 (dk_at dksX0_ofRest_4 12 rfl rfl)
theorem dX0_ofRest_121 : decode cX0_ofRest 121 = .ok (.aload_n 0, 1) := dk_42 (dk_at dksX0_ofRest_4 13 rfl rfl)
theorem dX0_ofRest_122 : decode cX0_ofRest 122 = .ok (.invokevirtual 436, 3) := dk_182 1 180 (dk_at dksX0_ofRest_4 14 rfl rfl)
theorem dX0_ofRest_125 : decode cX0_ofRest 125 = .ok (.ireturn, 1) := dk_172 (dk_at dksX0_ofRest_4 17 rfl rfl)
theorem dX0_ofRest_126 : decode cX0_ofRest 126 = .ok (.aload_n 0, 1) := dk_42 (dk_at dksX0_ofRest_4 18 rfl rfl)
theorem dX0_ofRest_127 : decode cX0_ofRest 127 = .ok (.invokevirtual 439, 3) := dk_182 1 183 (dk_at dksX0_ofRest_4 19 rfl rfl)
theorem dX0_ofRest_130 : decode cX0_ofRest 130 = .ok (.ireturn, 1) := dk_172 (dk_at dksX0_ofRest_4 22 rfl rfl)
abbrev cX0_differentOnes : ByteArray := prog_1_method_34_code
def yX0_differentOnes : MethodName := ⟨RX0, "differentOnes", "()I"⟩
def dkwX0_differentOnes_2 : List UInt8 := [182, 1, 6, 172]
abbrev dktX0_differentOnes_2 : List UInt8 := dkwX0_differentOnes_2 ++ []
def dkwX0_differentOnes_1 : List UInt8 := [44, 29, 182, 0, 152, 192, 0, 155, 180, 0, 160, 182, 1, 2, 87, 132, 3, 1, 167, 255, 229, 43]
abbrev dktX0_differentOnes_1 : List UInt8 := dkwX0_differentOnes_1 ++ dktX0_differentOnes_2
def dkwX0_differentOnes_0 : List UInt8 := [187, 0, 255, 89, 183, 1, 1, 76, 42, 182, 0, 145, 77, 3, 62, 29, 44, 180, 0, 149, 162, 0, 25, 43]
abbrev dktX0_differentOnes_0 : List UInt8 := dkwX0_differentOnes_0 ++ dktX0_differentOnes_1
theorem dksX0_differentOnes_0 : cX0_differentOnes.data.toList.drop 0 = dktX0_differentOnes_0 := by decide +kernel
theorem dksX0_differentOnes_1 : cX0_differentOnes.data.toList.drop 24 = dktX0_differentOnes_1 := dk_seg dksX0_differentOnes_0 24 rfl rfl
theorem dksX0_differentOnes_2 : cX0_differentOnes.data.toList.drop 46 = dktX0_differentOnes_2 := dk_seg dksX0_differentOnes_1 22 rfl rfl
theorem dX0_differentOnes_0 : decode cX0_differentOnes 0 = .ok (.new 255, 3) := dk_187 0 255 (dk_at dksX0_differentOnes_0 0 rfl rfl)
theorem dX0_differentOnes_3 : decode cX0_differentOnes 3 = .ok (.dup, 1) := dk_89 (dk_at dksX0_differentOnes_0 3 rfl rfl)
theorem dX0_differentOnes_4 : decode cX0_differentOnes 4 = .ok (.invokespecial 257, 3) := dk_183 1 1 (dk_at dksX0_differentOnes_0 4 rfl rfl)
theorem dX0_differentOnes_7 : decode cX0_differentOnes 7 = .ok (.astore_n 1, 1) := dk_76 (dk_at dksX0_differentOnes_0 7 rfl rfl)
theorem dX0_differentOnes_8 : decode cX0_differentOnes 8 = .ok (.aload_n 0, 1) := dk_42 (dk_at dksX0_differentOnes_0 8 rfl rfl)
theorem dX0_differentOnes_9 : decode cX0_differentOnes 9 = .ok (.invokevirtual 145, 3) := dk_182 0 145 (dk_at dksX0_differentOnes_0 9 rfl rfl)
theorem dX0_differentOnes_12 : decode cX0_differentOnes 12 = .ok (.astore_n 2, 1) := dk_77 (dk_at dksX0_differentOnes_0 12 rfl rfl)
theorem dX0_differentOnes_13 : decode cX0_differentOnes 13 = .ok (.iconst 0, 1) := dk_3 (dk_at dksX0_differentOnes_0 13 rfl rfl)
theorem dX0_differentOnes_14 : decode cX0_differentOnes 14 = .ok (.istore_n 3, 1) := dk_62 (dk_at dksX0_differentOnes_0 14 rfl rfl)
theorem dX0_differentOnes_15 : decode cX0_differentOnes 15 = .ok (.iload_n 3, 1) := dk_29 (dk_at dksX0_differentOnes_0 15 rfl rfl)
theorem dX0_differentOnes_16 : decode cX0_differentOnes 16 = .ok (.aload_n 2, 1) := dk_44 (dk_at dksX0_differentOnes_0 16 rfl rfl)
theorem dX0_differentOnes_17 : decode cX0_differentOnes 17 = .ok (.getfield 149, 3) := dk_180 0 149 (dk_at dksX0_differentOnes_0 17 rfl rfl)
theorem dX0_differentOnes_20 : decode cX0_differentOnes 20 = .ok (.if_icmp .ge 25, 3) := dk_162 0 25 (dk_at dksX0_differentOnes_0 20 rfl rfl)
theorem dX0_differentOnes_23 : decode cX0_differentOnes 23 = .ok (.aload_n 1, 1) := dk_43 (dk_at dksX0_differentOnes_0 23 rfl rfl)
theorem dX0_differentOnes_24 : decode cX0_differentOnes 24 = .ok (.aload_n 2, 1) := dk_44 (dk_at dksX0_differentOnes_1 0 rfl rfl)
theorem dX0_differentOnes_25 : decode cX0_differentOnes 25 = .ok (.iload_n 3, 1) := dk_29 (dk_at dksX0_differentOnes_1 1 rfl rfl)
theorem dX0_differentOnes_26 : decode cX0_differentOnes 26 = .ok (.invokevirtual 152, 3) := dk_182 0 152 (dk_at dksX0_differentOnes_1 2 rfl rfl)
theorem dX0_differentOnes_29 : decode cX0_differentOnes 29 = .ok (.checkcast 155, 3) := dk_192 0 155 (dk_at dksX0_differentOnes_1 5 rfl rfl)
theorem dX0_differentOnes_32 : decode cX0_differentOnes 32 = .ok (.getfield 160, 3) := dk_180 0 160 (dk_at dksX0_differentOnes_1 8 rfl rfl)
theorem dX0_differentOnes_35 : decode cX0_differentOnes 35 = .ok (.invokevirtual 258, 3) := dk_182 1 2 (dk_at dksX0_differentOnes_1 11 rfl rfl)
theorem dX0_differentOnes_38 : decode cX0_differentOnes 38 = .ok (.pop, 1) := dk_87 (dk_at dksX0_differentOnes_1 14 rfl rfl)
theorem dX0_differentOnes_39 : decode cX0_differentOnes 39 = .ok (.iinc 3 1, 3) := dk_132 3 1 (dk_at dksX0_differentOnes_1 15 rfl rfl)
theorem dX0_differentOnes_42 : decode cX0_differentOnes 42 = .ok (.goto (-27), 3) := dk_167 255 229 (dk_at dksX0_differentOnes_1 18 rfl rfl)
theorem dX0_differentOnes_45 : decode cX0_differentOnes 45 = .ok (.aload_n 1, 1) := dk_43 (dk_at dksX0_differentOnes_1 21 rfl rfl)
theorem dX0_differentOnes_46 : decode cX0_differentOnes 46 = .ok (.invokevirtual 262, 3) := dk_182 1 6 (dk_at dksX0_differentOnes_2 0 rfl rfl)
theorem dX0_differentOnes_49 : decode cX0_differentOnes 49 = .ok (.ireturn, 1) := dk_172 (dk_at dksX0_differentOnes_2 3 rfl rfl)
abbrev cX0_oftenTold : ByteArray := prog_1_method_35_code
def yX0_oftenTold : MethodName := ⟨RX0, "oftenTold", "(I)I"⟩
def dkwX0_oftenTold_8 : List UInt8 := [167, 0, 8, 25, 4, 180, 1, 21, 172]
abbrev dktX0_oftenTold_8 : List UInt8 := dkwX0_oftenTold_8 ++ []
def dkwX0_oftenTold_7 : List UInt8 := [167, 0, 5, 25, 4, 58, 4, 132, 5, 1, 167, 255, 201, 27, 154, 0, 11, 25, 4, 180, 1, 22]
abbrev dktX0_oftenTold_7 : List UInt8 := dkwX0_oftenTold_7 ++ dktX0_oftenTold_8
def dkwX0_oftenTold_6 : List UInt8 := [182, 1, 17, 192, 1, 10, 58, 6, 25, 6, 180, 1, 21, 25, 4, 180, 1, 21, 164, 0, 8, 25, 6]
abbrev dktX0_oftenTold_6 : List UInt8 := dkwX0_oftenTold_6 ++ dktX0_oftenTold_7
def dkwX0_oftenTold_5 : List UInt8 := [21, 5, 45, 180, 0, 149, 162, 0, 52, 44, 45, 21, 5, 182, 0, 152, 192, 0, 155, 180, 0, 160]
abbrev dktX0_oftenTold_5 : List UInt8 := dkwX0_oftenTold_5 ++ dktX0_oftenTold_6
def dkwX0_oftenTold_4 : List UInt8 := [182, 1, 17, 192, 1, 10, 89, 180, 1, 21, 4, 96, 181, 1, 21, 132, 5, 1, 167, 255, 178, 3, 54, 5]
abbrev dktX0_oftenTold_4 : List UInt8 := dkwX0_oftenTold_4 ++ dktX0_oftenTold_5
def dkwX0_oftenTold_3 : List UInt8 := [187, 1, 10, 89, 25, 6, 180, 0, 157, 183, 1, 12, 182, 1, 16, 87, 44, 25, 6, 180, 0, 160]
abbrev dktX0_oftenTold_3 : List UInt8 := dkwX0_oftenTold_3 ++ dktX0_oftenTold_4
def dkwX0_oftenTold_2 : List UInt8 := [192, 0, 155, 58, 6, 44, 25, 6, 180, 0, 160, 182, 1, 13, 154, 0, 25, 44, 25, 6, 180, 0, 160]
abbrev dktX0_oftenTold_2 : List UInt8 := dkwX0_oftenTold_2 ++ dktX0_oftenTold_3
def dkwX0_oftenTold_1 : List UInt8 := [183, 1, 12, 58, 4, 3, 54, 5, 21, 5, 45, 180, 0, 149, 162, 0, 75, 45, 21, 5, 182, 0, 152]
abbrev dktX0_oftenTold_1 : List UInt8 := dkwX0_oftenTold_1 ++ dktX0_oftenTold_2
def dkwX0_oftenTold_0 : List UInt8 := [27, 184, 0, 226, 187, 1, 7, 89, 183, 1, 9, 77, 42, 182, 0, 145, 78, 187, 1, 10, 89, 3]
abbrev dktX0_oftenTold_0 : List UInt8 := dkwX0_oftenTold_0 ++ dktX0_oftenTold_1
theorem dksX0_oftenTold_0 : cX0_oftenTold.data.toList.drop 0 = dktX0_oftenTold_0 := by decide +kernel
theorem dksX0_oftenTold_1 : cX0_oftenTold.data.toList.drop 22 = dktX0_oftenTold_1 := dk_seg dksX0_oftenTold_0 22 rfl rfl
theorem dksX0_oftenTold_2 : cX0_oftenTold.data.toList.drop 45 = dktX0_oftenTold_2 := dk_seg dksX0_oftenTold_1 23 rfl rfl
theorem dksX0_oftenTold_3 : cX0_oftenTold.data.toList.drop 68 = dktX0_oftenTold_3 := dk_seg dksX0_oftenTold_2 23 rfl rfl
theorem dksX0_oftenTold_4 : cX0_oftenTold.data.toList.drop 90 = dktX0_oftenTold_4 := dk_seg dksX0_oftenTold_3 22 rfl rfl
theorem dksX0_oftenTold_5 : cX0_oftenTold.data.toList.drop 114 = dktX0_oftenTold_5 := dk_seg dksX0_oftenTold_4 24 rfl rfl
theorem dksX0_oftenTold_6 : cX0_oftenTold.data.toList.drop 136 = dktX0_oftenTold_6 := dk_seg dksX0_oftenTold_5 22 rfl rfl
theorem dksX0_oftenTold_7 : cX0_oftenTold.data.toList.drop 159 = dktX0_oftenTold_7 := dk_seg dksX0_oftenTold_6 23 rfl rfl
theorem dksX0_oftenTold_8 : cX0_oftenTold.data.toList.drop 181 = dktX0_oftenTold_8 := dk_seg dksX0_oftenTold_7 22 rfl rfl
theorem dX0_oftenTold_0 : decode cX0_oftenTold 0 = .ok (.iload_n 1, 1) := dk_27 (dk_at dksX0_oftenTold_0 0 rfl rfl)
theorem dX0_oftenTold_1 : decode cX0_oftenTold 1 = .ok (.invokestatic 226, 3) := dk_184 0 226 (dk_at dksX0_oftenTold_0 1 rfl rfl)
theorem dX0_oftenTold_4 : decode cX0_oftenTold 4 = .ok (.new 263, 3) := dk_187 1 7 (dk_at dksX0_oftenTold_0 4 rfl rfl)
theorem dX0_oftenTold_7 : decode cX0_oftenTold 7 = .ok (.dup, 1) := dk_89 (dk_at dksX0_oftenTold_0 7 rfl rfl)
theorem dX0_oftenTold_8 : decode cX0_oftenTold 8 = .ok (.invokespecial 265, 3) := dk_183 1 9 (dk_at dksX0_oftenTold_0 8 rfl rfl)
theorem dX0_oftenTold_11 : decode cX0_oftenTold 11 = .ok (.astore_n 2, 1) := dk_77 (dk_at dksX0_oftenTold_0 11 rfl rfl)
theorem dX0_oftenTold_12 : decode cX0_oftenTold 12 = .ok (.aload_n 0, 1) := dk_42 (dk_at dksX0_oftenTold_0 12 rfl rfl)
theorem dX0_oftenTold_13 : decode cX0_oftenTold 13 = .ok (.invokevirtual 145, 3) := dk_182 0 145 (dk_at dksX0_oftenTold_0 13 rfl rfl)
theorem dX0_oftenTold_16 : decode cX0_oftenTold 16 = .ok (.astore_n 3, 1) := dk_78 (dk_at dksX0_oftenTold_0 16 rfl rfl)
theorem dX0_oftenTold_17 : decode cX0_oftenTold 17 = .ok (.new 266, 3) := dk_187 1 10 (dk_at dksX0_oftenTold_0 17 rfl rfl)
theorem dX0_oftenTold_20 : decode cX0_oftenTold 20 = .ok (.dup, 1) := dk_89 (dk_at dksX0_oftenTold_0 20 rfl rfl)
theorem dX0_oftenTold_21 : decode cX0_oftenTold 21 = .ok (.iconst 0, 1) := dk_3 (dk_at dksX0_oftenTold_0 21 rfl rfl)
theorem dX0_oftenTold_22 : decode cX0_oftenTold 22 = .ok (.invokespecial 268, 3) := dk_183 1 12 (dk_at dksX0_oftenTold_1 0 rfl rfl)
theorem dX0_oftenTold_25 : decode cX0_oftenTold 25 = .ok (.astore 4, 2) := dk_58 4 (dk_at dksX0_oftenTold_1 3 rfl rfl)
theorem dX0_oftenTold_27 : decode cX0_oftenTold 27 = .ok (.iconst 0, 1) := dk_3 (dk_at dksX0_oftenTold_1 5 rfl rfl)
theorem dX0_oftenTold_28 : decode cX0_oftenTold 28 = .ok (.istore 5, 2) := dk_54 5 (dk_at dksX0_oftenTold_1 6 rfl rfl)
theorem dX0_oftenTold_30 : decode cX0_oftenTold 30 = .ok (.iload 5, 2) := dk_21 5 (dk_at dksX0_oftenTold_1 8 rfl rfl)
theorem dX0_oftenTold_32 : decode cX0_oftenTold 32 = .ok (.aload_n 3, 1) := dk_45 (dk_at dksX0_oftenTold_1 10 rfl rfl)
theorem dX0_oftenTold_33 : decode cX0_oftenTold 33 = .ok (.getfield 149, 3) := dk_180 0 149 (dk_at dksX0_oftenTold_1 11 rfl rfl)
theorem dX0_oftenTold_36 : decode cX0_oftenTold 36 = .ok (.if_icmp .ge 75, 3) := dk_162 0 75 (dk_at dksX0_oftenTold_1 14 rfl rfl)
theorem dX0_oftenTold_39 : decode cX0_oftenTold 39 = .ok (.aload_n 3, 1) := dk_45 (dk_at dksX0_oftenTold_1 17 rfl rfl)
theorem dX0_oftenTold_40 : decode cX0_oftenTold 40 = .ok (.iload 5, 2) := dk_21 5 (dk_at dksX0_oftenTold_1 18 rfl rfl)
theorem dX0_oftenTold_42 : decode cX0_oftenTold 42 = .ok (.invokevirtual 152, 3) := dk_182 0 152 (dk_at dksX0_oftenTold_1 20 rfl rfl)
theorem dX0_oftenTold_45 : decode cX0_oftenTold 45 = .ok (.checkcast 155, 3) := dk_192 0 155 (dk_at dksX0_oftenTold_2 0 rfl rfl)
theorem dX0_oftenTold_48 : decode cX0_oftenTold 48 = .ok (.astore 6, 2) := dk_58 6 (dk_at dksX0_oftenTold_2 3 rfl rfl)
theorem dX0_oftenTold_50 : decode cX0_oftenTold 50 = .ok (.aload_n 2, 1) := dk_44 (dk_at dksX0_oftenTold_2 5 rfl rfl)
theorem dX0_oftenTold_51 : decode cX0_oftenTold 51 = .ok (.aload 6, 2) := dk_25 6 (dk_at dksX0_oftenTold_2 6 rfl rfl)
theorem dX0_oftenTold_53 : decode cX0_oftenTold 53 = .ok (.getfield 160, 3) := dk_180 0 160 (dk_at dksX0_oftenTold_2 8 rfl rfl)
theorem dX0_oftenTold_56 : decode cX0_oftenTold 56 = .ok (.invokevirtual 269, 3) := dk_182 1 13 (dk_at dksX0_oftenTold_2 11 rfl rfl)
theorem dX0_oftenTold_59 : decode cX0_oftenTold 59 = .ok (.ifCond .ne 25, 3) := dk_154 0 25 (dk_at dksX0_oftenTold_2 14 rfl rfl)
theorem dX0_oftenTold_62 : decode cX0_oftenTold 62 = .ok (.aload_n 2, 1) := dk_44 (dk_at dksX0_oftenTold_2 17 rfl rfl)
theorem dX0_oftenTold_63 : decode cX0_oftenTold 63 = .ok (.aload 6, 2) := dk_25 6 (dk_at dksX0_oftenTold_2 18 rfl rfl)
theorem dX0_oftenTold_65 : decode cX0_oftenTold 65 = .ok (.getfield 160, 3) := dk_180 0 160 (dk_at dksX0_oftenTold_2 20 rfl rfl)
theorem dX0_oftenTold_68 : decode cX0_oftenTold 68 = .ok (.new 266, 3) := dk_187 1 10 (dk_at dksX0_oftenTold_3 0 rfl rfl)
theorem dX0_oftenTold_71 : decode cX0_oftenTold 71 = .ok (.dup, 1) := dk_89 (dk_at dksX0_oftenTold_3 3 rfl rfl)
theorem dX0_oftenTold_72 : decode cX0_oftenTold 72 = .ok (.aload 6, 2) := dk_25 6 (dk_at dksX0_oftenTold_3 4 rfl rfl)
theorem dX0_oftenTold_74 : decode cX0_oftenTold 74 = .ok (.getfield 157, 3) := dk_180 0 157 (dk_at dksX0_oftenTold_3 6 rfl rfl)
theorem dX0_oftenTold_77 : decode cX0_oftenTold 77 = .ok (.invokespecial 268, 3) := dk_183 1 12 (dk_at dksX0_oftenTold_3 9 rfl rfl)
theorem dX0_oftenTold_80 : decode cX0_oftenTold 80 = .ok (.invokevirtual 272, 3) := dk_182 1 16 (dk_at dksX0_oftenTold_3 12 rfl rfl)
theorem dX0_oftenTold_83 : decode cX0_oftenTold 83 = .ok (.pop, 1) := dk_87 (dk_at dksX0_oftenTold_3 15 rfl rfl)
theorem dX0_oftenTold_84 : decode cX0_oftenTold 84 = .ok (.aload_n 2, 1) := dk_44 (dk_at dksX0_oftenTold_3 16 rfl rfl)
theorem dX0_oftenTold_85 : decode cX0_oftenTold 85 = .ok (.aload 6, 2) := dk_25 6 (dk_at dksX0_oftenTold_3 17 rfl rfl)
theorem dX0_oftenTold_87 : decode cX0_oftenTold 87 = .ok (.getfield 160, 3) := dk_180 0 160 (dk_at dksX0_oftenTold_3 19 rfl rfl)
theorem dX0_oftenTold_90 : decode cX0_oftenTold 90 = .ok (.invokevirtual 273, 3) := dk_182 1 17 (dk_at dksX0_oftenTold_4 0 rfl rfl)
theorem dX0_oftenTold_93 : decode cX0_oftenTold 93 = .ok (.checkcast 266, 3) := dk_192 1 10 (dk_at dksX0_oftenTold_4 3 rfl rfl)
theorem dX0_oftenTold_96 : decode cX0_oftenTold 96 = .ok (.dup, 1) := dk_89 (dk_at dksX0_oftenTold_4 6 rfl rfl)
theorem dX0_oftenTold_97 : decode cX0_oftenTold 97 = .ok (.getfield 277, 3) := dk_180 1 21 (dk_at dksX0_oftenTold_4 7 rfl rfl)
theorem dX0_oftenTold_100 : decode cX0_oftenTold 100 = .ok (.iconst 1, 1) := dk_4 (dk_at dksX0_oftenTold_4 10 rfl rfl)
theorem dX0_oftenTold_101 : decode cX0_oftenTold 101 = .ok (.iadd, 1) := dk_96 (dk_at dksX0_oftenTold_4 11 rfl rfl)
theorem dX0_oftenTold_102 : decode cX0_oftenTold 102 = .ok (.putfield 277, 3) := dk_181 1 21 (dk_at dksX0_oftenTold_4 12 rfl rfl)
theorem dX0_oftenTold_105 : decode cX0_oftenTold 105 = .ok (.iinc 5 1, 3) := dk_132 5 1 (dk_at dksX0_oftenTold_4 15 rfl rfl)
theorem dX0_oftenTold_108 : decode cX0_oftenTold 108 = .ok (.goto (-78), 3) := dk_167 255 178 (dk_at dksX0_oftenTold_4 18 rfl rfl)
theorem dX0_oftenTold_111 : decode cX0_oftenTold 111 = .ok (.iconst 0, 1) := dk_3 (dk_at dksX0_oftenTold_4 21 rfl rfl)
theorem dX0_oftenTold_112 : decode cX0_oftenTold 112 = .ok (.istore 5, 2) := dk_54 5 (dk_at dksX0_oftenTold_4 22 rfl rfl)
theorem dX0_oftenTold_114 : decode cX0_oftenTold 114 = .ok (.iload 5, 2) := dk_21 5 (dk_at dksX0_oftenTold_5 0 rfl rfl)
theorem dX0_oftenTold_116 : decode cX0_oftenTold 116 = .ok (.aload_n 3, 1) := dk_45 (dk_at dksX0_oftenTold_5 2 rfl rfl)
theorem dX0_oftenTold_117 : decode cX0_oftenTold 117 = .ok (.getfield 149, 3) := dk_180 0 149 (dk_at dksX0_oftenTold_5 3 rfl rfl)
theorem dX0_oftenTold_120 : decode cX0_oftenTold 120 = .ok (.if_icmp .ge 52, 3) := dk_162 0 52 (dk_at dksX0_oftenTold_5 6 rfl rfl)
theorem dX0_oftenTold_123 : decode cX0_oftenTold 123 = .ok (.aload_n 2, 1) := dk_44 (dk_at dksX0_oftenTold_5 9 rfl rfl)
theorem dX0_oftenTold_124 : decode cX0_oftenTold 124 = .ok (.aload_n 3, 1) := dk_45 (dk_at dksX0_oftenTold_5 10 rfl rfl)
theorem dX0_oftenTold_125 : decode cX0_oftenTold 125 = .ok (.iload 5, 2) := dk_21 5 (dk_at dksX0_oftenTold_5 11 rfl rfl)
theorem dX0_oftenTold_127 : decode cX0_oftenTold 127 = .ok (.invokevirtual 152, 3) := dk_182 0 152 (dk_at dksX0_oftenTold_5 13 rfl rfl)
theorem dX0_oftenTold_130 : decode cX0_oftenTold 130 = .ok (.checkcast 155, 3) := dk_192 0 155 (dk_at dksX0_oftenTold_5 16 rfl rfl)
theorem dX0_oftenTold_133 : decode cX0_oftenTold 133 = .ok (.getfield 160, 3) := dk_180 0 160 (dk_at dksX0_oftenTold_5 19 rfl rfl)
theorem dX0_oftenTold_136 : decode cX0_oftenTold 136 = .ok (.invokevirtual 273, 3) := dk_182 1 17 (dk_at dksX0_oftenTold_6 0 rfl rfl)
theorem dX0_oftenTold_139 : decode cX0_oftenTold 139 = .ok (.checkcast 266, 3) := dk_192 1 10 (dk_at dksX0_oftenTold_6 3 rfl rfl)
theorem dX0_oftenTold_142 : decode cX0_oftenTold 142 = .ok (.astore 6, 2) := dk_58 6 (dk_at dksX0_oftenTold_6 6 rfl rfl)
theorem dX0_oftenTold_144 : decode cX0_oftenTold 144 = .ok (.aload 6, 2) := dk_25 6 (dk_at dksX0_oftenTold_6 8 rfl rfl)
theorem dX0_oftenTold_146 : decode cX0_oftenTold 146 = .ok (.getfield 277, 3) := dk_180 1 21 (dk_at dksX0_oftenTold_6 10 rfl rfl)
theorem dX0_oftenTold_149 : decode cX0_oftenTold 149 = .ok (.aload 4, 2) := dk_25 4 (dk_at dksX0_oftenTold_6 13 rfl rfl)
theorem dX0_oftenTold_151 : decode cX0_oftenTold 151 = .ok (.getfield 277, 3) := dk_180 1 21 (dk_at dksX0_oftenTold_6 15 rfl rfl)
theorem dX0_oftenTold_154 : decode cX0_oftenTold 154 = .ok (.if_icmp .le 8, 3) := dk_164 0 8 (dk_at dksX0_oftenTold_6 18 rfl rfl)
theorem dX0_oftenTold_157 : decode cX0_oftenTold 157 = .ok (.aload 6, 2) := dk_25 6 (dk_at dksX0_oftenTold_6 21 rfl rfl)
theorem dX0_oftenTold_159 : decode cX0_oftenTold 159 = .ok (.goto 5, 3) := dk_167 0 5 (dk_at dksX0_oftenTold_7 0 rfl rfl)
theorem dX0_oftenTold_162 : decode cX0_oftenTold 162 = .ok (.aload 4, 2) := dk_25 4 (dk_at dksX0_oftenTold_7 3 rfl rfl)
theorem dX0_oftenTold_164 : decode cX0_oftenTold 164 = .ok (.astore 4, 2) := dk_58 4 (dk_at dksX0_oftenTold_7 5 rfl rfl)
theorem dX0_oftenTold_166 : decode cX0_oftenTold 166 = .ok (.iinc 5 1, 3) := dk_132 5 1 (dk_at dksX0_oftenTold_7 7 rfl rfl)
theorem dX0_oftenTold_169 : decode cX0_oftenTold 169 = .ok (.goto (-55), 3) := dk_167 255 201 (dk_at dksX0_oftenTold_7 10 rfl rfl)
theorem dX0_oftenTold_172 : decode cX0_oftenTold 172 = .ok (.iload_n 1, 1) := dk_27 (dk_at dksX0_oftenTold_7 13 rfl rfl)
theorem dX0_oftenTold_173 : decode cX0_oftenTold 173 = .ok (.ifCond .ne 11, 3) := dk_154 0 11 (dk_at dksX0_oftenTold_7 14 rfl rfl)
theorem dX0_oftenTold_176 : decode cX0_oftenTold 176 = .ok (.aload 4, 2) := dk_25 4 (dk_at dksX0_oftenTold_7 17 rfl rfl)
theorem dX0_oftenTold_178 : decode cX0_oftenTold 178 = .ok (.getfield 278, 3) := dk_180 1 22 (dk_at dksX0_oftenTold_7 19 rfl rfl)
theorem dX0_oftenTold_181 : decode cX0_oftenTold 181 = .ok (.goto 8, 3) := dk_167 0 8 (dk_at dksX0_oftenTold_8 0 rfl rfl)
theorem dX0_oftenTold_184 : decode cX0_oftenTold 184 = .ok (.aload 4, 2) := dk_25 4 (dk_at dksX0_oftenTold_8 3 rfl rfl)
theorem dX0_oftenTold_186 : decode cX0_oftenTold 186 = .ok (.getfield 277, 3) := dk_180 1 21 (dk_at dksX0_oftenTold_8 5 rfl rfl)
theorem dX0_oftenTold_189 : decode cX0_oftenTold 189 = .ok (.ireturn, 1) := dk_172 (dk_at dksX0_oftenTold_8 8 rfl rfl)
abbrev cX0_withoutTold : ByteArray := prog_1_method_36_code
def yX0_withoutTold : MethodName := ⟨RX0, "withoutTold", "(I)I"⟩
def dkwX0_withoutTold_1 : List UInt8 := [182, 1, 23, 172]
abbrev dktX0_withoutTold_1 : List UInt8 := dkwX0_withoutTold_1 ++ []
def dkwX0_withoutTold_0 : List UInt8 := [42, 27, 182, 0, 173, 87, 27, 158, 0, 7, 4, 167, 0, 4, 3, 16, 253, 184, 0, 9, 42, 27, 1]
abbrev dktX0_withoutTold_0 : List UInt8 := dkwX0_withoutTold_0 ++ dktX0_withoutTold_1
theorem dksX0_withoutTold_0 : cX0_withoutTold.data.toList.drop 0 = dktX0_withoutTold_0 := by decide +kernel
theorem dksX0_withoutTold_1 : cX0_withoutTold.data.toList.drop 23 = dktX0_withoutTold_1 := dk_seg dksX0_withoutTold_0 23 rfl rfl
theorem dX0_withoutTold_0 : decode cX0_withoutTold 0 = .ok (.aload_n 0, 1) := dk_42 (dk_at dksX0_withoutTold_0 0 rfl rfl)
theorem dX0_withoutTold_1 : decode cX0_withoutTold 1 = .ok (.iload_n 1, 1) := dk_27 (dk_at dksX0_withoutTold_0 1 rfl rfl)
theorem dX0_withoutTold_2 : decode cX0_withoutTold 2 = .ok (.invokevirtual 173, 3) := dk_182 0 173 (dk_at dksX0_withoutTold_0 2 rfl rfl)
theorem dX0_withoutTold_5 : decode cX0_withoutTold 5 = .ok (.pop, 1) := dk_87 (dk_at dksX0_withoutTold_0 5 rfl rfl)
theorem dX0_withoutTold_6 : decode cX0_withoutTold 6 = .ok (.iload_n 1, 1) := dk_27 (dk_at dksX0_withoutTold_0 6 rfl rfl)
theorem dX0_withoutTold_7 : decode cX0_withoutTold 7 = .ok (.ifCond .le 7, 3) := dk_158 0 7 (dk_at dksX0_withoutTold_0 7 rfl rfl)
theorem dX0_withoutTold_10 : decode cX0_withoutTold 10 = .ok (.iconst 1, 1) := dk_4 (dk_at dksX0_withoutTold_0 10 rfl rfl)
theorem dX0_withoutTold_11 : decode cX0_withoutTold 11 = .ok (.goto 4, 3) := dk_167 0 4 (dk_at dksX0_withoutTold_0 11 rfl rfl)
theorem dX0_withoutTold_14 : decode cX0_withoutTold 14 = .ok (.iconst 0, 1) := dk_3 (dk_at dksX0_withoutTold_0 14 rfl rfl)
theorem dX0_withoutTold_15 : decode cX0_withoutTold 15 = .ok (.bipush (-3), 2) := dk_16 253 (dk_at dksX0_withoutTold_0 15 rfl rfl)
theorem dX0_withoutTold_17 : decode cX0_withoutTold 17 = .ok (.invokestatic 9, 3) := dk_184 0 9 (dk_at dksX0_withoutTold_0 17 rfl rfl)
theorem dX0_withoutTold_20 : decode cX0_withoutTold 20 = .ok (.aload_n 0, 1) := dk_42 (dk_at dksX0_withoutTold_0 20 rfl rfl)
theorem dX0_withoutTold_21 : decode cX0_withoutTold 21 = .ok (.iload_n 1, 1) := dk_27 (dk_at dksX0_withoutTold_0 21 rfl rfl)
theorem dX0_withoutTold_22 : decode cX0_withoutTold 22 = .ok (.aconst_null, 1) := dk_1 (dk_at dksX0_withoutTold_0 22 rfl rfl)
theorem dX0_withoutTold_23 : decode cX0_withoutTold 23 = .ok (.invokevirtual 279, 3) := dk_182 1 23 (dk_at dksX0_withoutTold_1 0 rfl rfl)
theorem dX0_withoutTold_26 : decode cX0_withoutTold 26 = .ok (.ireturn, 1) := dk_172 (dk_at dksX0_withoutTold_1 3 rfl rfl)
abbrev cX0_foundWith : ByteArray := prog_1_method_29_code
def yX0_foundWith : MethodName := ⟨RX0, "foundWith", "(ILGathersAllFaults$Value;)I"⟩
def dkwX0_foundWith_0 : List UInt8 := [42, 180, 0, 73, 42, 180, 0, 66, 27, 44, 184, 0, 165, 182, 0, 192, 180, 0, 221, 180, 0, 149, 172]
abbrev dktX0_foundWith_0 : List UInt8 := dkwX0_foundWith_0 ++ []
theorem dksX0_foundWith_0 : cX0_foundWith.data.toList.drop 0 = dktX0_foundWith_0 := by decide +kernel
theorem dX0_foundWith_0 : decode cX0_foundWith 0 = .ok (.aload_n 0, 1) := dk_42 (dk_at dksX0_foundWith_0 0 rfl rfl)
theorem dX0_foundWith_1 : decode cX0_foundWith 1 = .ok (.getfield 73, 3) := dk_180 0 73 (dk_at dksX0_foundWith_0 1 rfl rfl)
theorem dX0_foundWith_4 : decode cX0_foundWith 4 = .ok (.aload_n 0, 1) := dk_42 (dk_at dksX0_foundWith_0 4 rfl rfl)
theorem dX0_foundWith_5 : decode cX0_foundWith 5 = .ok (.getfield 66, 3) := dk_180 0 66 (dk_at dksX0_foundWith_0 5 rfl rfl)
theorem dX0_foundWith_8 : decode cX0_foundWith 8 = .ok (.iload_n 1, 1) := dk_27 (dk_at dksX0_foundWith_0 8 rfl rfl)
theorem dX0_foundWith_9 : decode cX0_foundWith 9 = .ok (.aload_n 2, 1) := dk_44 (dk_at dksX0_foundWith_0 9 rfl rfl)
theorem dX0_foundWith_10 : decode cX0_foundWith 10 = .ok (.invokestatic 165, 3) := dk_184 0 165 (dk_at dksX0_foundWith_0 10 rfl rfl)
theorem dX0_foundWith_13 : decode cX0_foundWith 13 = .ok (.invokevirtual 192, 3) := dk_182 0 192 (dk_at dksX0_foundWith_0 13 rfl rfl)
theorem dX0_foundWith_16 : decode cX0_foundWith 16 = .ok (.getfield 221, 3) := dk_180 0 221 (dk_at dksX0_foundWith_0 16 rfl rfl)
theorem dX0_foundWith_19 : decode cX0_foundWith 19 = .ok (.getfield 149, 3) := dk_180 0 149 (dk_at dksX0_foundWith_0 19 rfl rfl)
theorem dX0_foundWith_22 : decode cX0_foundWith 22 = .ok (.ireturn, 1) := dk_172 (dk_at dksX0_foundWith_0 22 rfl rfl)
abbrev cX0_mendTold : ByteArray := prog_1_method_37_code
def yX0_mendTold : MethodName := ⟨RX0, "mendTold", "(I)I"⟩
def dkwX0_mendTold_6 : List UInt8 := [21, 4, 167, 0, 4, 29, 172]
abbrev dktX0_mendTold_6 : List UInt8 := dkwX0_mendTold_6 ++ []
def dkwX0_mendTold_5 : List UInt8 := [132, 6, 1, 167, 255, 175, 132, 5, 1, 167, 255, 157, 21, 4, 16, 247, 159, 0, 7, 27, 154, 0, 8]
abbrev dktX0_mendTold_5 : List UInt8 := dkwX0_mendTold_5 ++ dktX0_mendTold_6
def dkwX0_mendTold_4 : List UInt8 := [192, 0, 155, 180, 0, 157, 104, 21, 6, 96, 167, 0, 5, 21, 4, 54, 4, 29, 21, 7, 184, 0, 246, 62]
abbrev dktX0_mendTold_4 : List UInt8 := dkwX0_mendTold_4 ++ dktX0_mendTold_5
def dkwX0_mendTold_3 : List UInt8 := [180, 0, 221, 180, 0, 149, 54, 7, 21, 7, 29, 162, 0, 24, 16, 100, 44, 21, 5, 182, 0, 152]
abbrev dktX0_mendTold_3 : List UInt8 := dkwX0_mendTold_3 ++ dktX0_mendTold_4
def dkwX0_mendTold_2 : List UInt8 := [154, 0, 6, 167, 0, 79, 42, 44, 21, 5, 182, 0, 152, 192, 0, 155, 180, 0, 157, 21, 6, 182, 1, 26]
abbrev dktX0_mendTold_2 : List UInt8 := dkwX0_mendTold_2 ++ dktX0_mendTold_3
def dkwX0_mendTold_1 : List UInt8 := [3, 54, 5, 21, 5, 44, 180, 0, 149, 162, 0, 96, 3, 54, 6, 21, 6, 16, 20, 163, 0, 80, 29]
abbrev dktX0_mendTold_1 : List UInt8 := dkwX0_mendTold_1 ++ dktX0_mendTold_2
def dkwX0_mendTold_0 : List UInt8 := [27, 184, 0, 226, 42, 182, 0, 145, 77, 42, 182, 0, 229, 180, 0, 221, 180, 0, 149, 62, 16, 247, 54, 4]
abbrev dktX0_mendTold_0 : List UInt8 := dkwX0_mendTold_0 ++ dktX0_mendTold_1
theorem dksX0_mendTold_0 : cX0_mendTold.data.toList.drop 0 = dktX0_mendTold_0 := by decide +kernel
theorem dksX0_mendTold_1 : cX0_mendTold.data.toList.drop 24 = dktX0_mendTold_1 := dk_seg dksX0_mendTold_0 24 rfl rfl
theorem dksX0_mendTold_2 : cX0_mendTold.data.toList.drop 47 = dktX0_mendTold_2 := dk_seg dksX0_mendTold_1 23 rfl rfl
theorem dksX0_mendTold_3 : cX0_mendTold.data.toList.drop 71 = dktX0_mendTold_3 := dk_seg dksX0_mendTold_2 24 rfl rfl
theorem dksX0_mendTold_4 : cX0_mendTold.data.toList.drop 93 = dktX0_mendTold_4 := dk_seg dksX0_mendTold_3 22 rfl rfl
theorem dksX0_mendTold_5 : cX0_mendTold.data.toList.drop 117 = dktX0_mendTold_5 := dk_seg dksX0_mendTold_4 24 rfl rfl
theorem dksX0_mendTold_6 : cX0_mendTold.data.toList.drop 140 = dktX0_mendTold_6 := dk_seg dksX0_mendTold_5 23 rfl rfl
theorem dX0_mendTold_0 : decode cX0_mendTold 0 = .ok (.iload_n 1, 1) := dk_27 (dk_at dksX0_mendTold_0 0 rfl rfl)
theorem dX0_mendTold_1 : decode cX0_mendTold 1 = .ok (.invokestatic 226, 3) := dk_184 0 226 (dk_at dksX0_mendTold_0 1 rfl rfl)
theorem dX0_mendTold_4 : decode cX0_mendTold 4 = .ok (.aload_n 0, 1) := dk_42 (dk_at dksX0_mendTold_0 4 rfl rfl)
theorem dX0_mendTold_5 : decode cX0_mendTold 5 = .ok (.invokevirtual 145, 3) := dk_182 0 145 (dk_at dksX0_mendTold_0 5 rfl rfl)
theorem dX0_mendTold_8 : decode cX0_mendTold 8 = .ok (.astore_n 2, 1) := dk_77 (dk_at dksX0_mendTold_0 8 rfl rfl)
theorem dX0_mendTold_9 : decode cX0_mendTold 9 = .ok (.aload_n 0, 1) := dk_42 (dk_at dksX0_mendTold_0 9 rfl rfl)
theorem dX0_mendTold_10 : decode cX0_mendTold 10 = .ok (.invokevirtual 229, 3) := dk_182 0 229 (dk_at dksX0_mendTold_0 10 rfl rfl)
theorem dX0_mendTold_13 : decode cX0_mendTold 13 = .ok (.getfield 221, 3) := dk_180 0 221 (dk_at dksX0_mendTold_0 13 rfl rfl)
theorem dX0_mendTold_16 : decode cX0_mendTold 16 = .ok (.getfield 149, 3) := dk_180 0 149 (dk_at dksX0_mendTold_0 16 rfl rfl)
theorem dX0_mendTold_19 : decode cX0_mendTold 19 = .ok (.istore_n 3, 1) := dk_62 (dk_at dksX0_mendTold_0 19 rfl rfl)
theorem dX0_mendTold_20 : decode cX0_mendTold 20 = .ok (.bipush (-9), 2) := dk_16 247 (dk_at dksX0_mendTold_0 20 rfl rfl)
theorem dX0_mendTold_22 : decode cX0_mendTold 22 = .ok (.istore 4, 2) := dk_54 4 (dk_at dksX0_mendTold_0 22 rfl rfl)
theorem dX0_mendTold_24 : decode cX0_mendTold 24 = .ok (.iconst 0, 1) := dk_3 (dk_at dksX0_mendTold_1 0 rfl rfl)
theorem dX0_mendTold_25 : decode cX0_mendTold 25 = .ok (.istore 5, 2) := dk_54 5 (dk_at dksX0_mendTold_1 1 rfl rfl)
theorem dX0_mendTold_27 : decode cX0_mendTold 27 = .ok (.iload 5, 2) := dk_21 5 (dk_at dksX0_mendTold_1 3 rfl rfl)
theorem dX0_mendTold_29 : decode cX0_mendTold 29 = .ok (.aload_n 2, 1) := dk_44 (dk_at dksX0_mendTold_1 5 rfl rfl)
theorem dX0_mendTold_30 : decode cX0_mendTold 30 = .ok (.getfield 149, 3) := dk_180 0 149 (dk_at dksX0_mendTold_1 6 rfl rfl)
theorem dX0_mendTold_33 : decode cX0_mendTold 33 = .ok (.if_icmp .ge 96, 3) := dk_162 0 96 (dk_at dksX0_mendTold_1 9 rfl rfl)
theorem dX0_mendTold_36 : decode cX0_mendTold 36 = .ok (.iconst 0, 1) := dk_3 (dk_at dksX0_mendTold_1 12 rfl rfl)
theorem dX0_mendTold_37 : decode cX0_mendTold 37 = .ok (.istore 6, 2) := dk_54 6 (dk_at dksX0_mendTold_1 13 rfl rfl)
theorem dX0_mendTold_39 : decode cX0_mendTold 39 = .ok (.iload 6, 2) := dk_21 6 (dk_at dksX0_mendTold_1 15 rfl rfl)
theorem dX0_mendTold_41 : decode cX0_mendTold 41 = .ok (.bipush 20, 2) := dk_16 20 (dk_at dksX0_mendTold_1 17 rfl rfl)
theorem dX0_mendTold_43 : decode cX0_mendTold 43 = .ok (.if_icmp .gt 80, 3) := dk_163 0 80 (dk_at dksX0_mendTold_1 19 rfl rfl)
theorem dX0_mendTold_46 : decode cX0_mendTold 46 = .ok (.iload_n 3, 1) := dk_29 (dk_at dksX0_mendTold_1 22 rfl rfl)
theorem dX0_mendTold_47 : decode cX0_mendTold 47 = .ok (.ifCond .ne 6, 3) := dk_154 0 6 (dk_at dksX0_mendTold_2 0 rfl rfl)
theorem dX0_mendTold_50 : decode cX0_mendTold 50 = .ok (.goto 79, 3) := dk_167 0 79 (dk_at dksX0_mendTold_2 3 rfl rfl)
theorem dX0_mendTold_53 : decode cX0_mendTold 53 = .ok (.aload_n 0, 1) := dk_42 (dk_at dksX0_mendTold_2 6 rfl rfl)
theorem dX0_mendTold_54 : decode cX0_mendTold 54 = .ok (.aload_n 2, 1) := dk_44 (dk_at dksX0_mendTold_2 7 rfl rfl)
theorem dX0_mendTold_55 : decode cX0_mendTold 55 = .ok (.iload 5, 2) := dk_21 5 (dk_at dksX0_mendTold_2 8 rfl rfl)
theorem dX0_mendTold_57 : decode cX0_mendTold 57 = .ok (.invokevirtual 152, 3) := dk_182 0 152 (dk_at dksX0_mendTold_2 10 rfl rfl)
theorem dX0_mendTold_60 : decode cX0_mendTold 60 = .ok (.checkcast 155, 3) := dk_192 0 155 (dk_at dksX0_mendTold_2 13 rfl rfl)
theorem dX0_mendTold_63 : decode cX0_mendTold 63 = .ok (.getfield 157, 3) := dk_180 0 157 (dk_at dksX0_mendTold_2 16 rfl rfl)
theorem dX0_mendTold_66 : decode cX0_mendTold 66 = .ok (.iload 6, 2) := dk_21 6 (dk_at dksX0_mendTold_2 19 rfl rfl)
theorem dX0_mendTold_68 : decode cX0_mendTold 68 = .ok (.invokevirtual 282, 3) := dk_182 1 26 (dk_at dksX0_mendTold_2 21 rfl rfl)
theorem dX0_mendTold_71 : decode cX0_mendTold 71 = .ok (.getfield 221, 3) := dk_180 0 221 (dk_at dksX0_mendTold_3 0 rfl rfl)
theorem dX0_mendTold_74 : decode cX0_mendTold 74 = .ok (.getfield 149, 3) := dk_180 0 149 (dk_at dksX0_mendTold_3 3 rfl rfl)
theorem dX0_mendTold_77 : decode cX0_mendTold 77 = .ok (.istore 7, 2) := dk_54 7 (dk_at dksX0_mendTold_3 6 rfl rfl)
theorem dX0_mendTold_79 : decode cX0_mendTold 79 = .ok (.iload 7, 2) := dk_21 7 (dk_at dksX0_mendTold_3 8 rfl rfl)
theorem dX0_mendTold_81 : decode cX0_mendTold 81 = .ok (.iload_n 3, 1) := dk_29 (dk_at dksX0_mendTold_3 10 rfl rfl)
theorem dX0_mendTold_82 : decode cX0_mendTold 82 = .ok (.if_icmp .ge 24, 3) := dk_162 0 24 (dk_at dksX0_mendTold_3 11 rfl rfl)
theorem dX0_mendTold_85 : decode cX0_mendTold 85 = .ok (.bipush 100, 2) := dk_16 100 (dk_at dksX0_mendTold_3 14 rfl rfl)
theorem dX0_mendTold_87 : decode cX0_mendTold 87 = .ok (.aload_n 2, 1) := dk_44 (dk_at dksX0_mendTold_3 16 rfl rfl)
theorem dX0_mendTold_88 : decode cX0_mendTold 88 = .ok (.iload 5, 2) := dk_21 5 (dk_at dksX0_mendTold_3 17 rfl rfl)
theorem dX0_mendTold_90 : decode cX0_mendTold 90 = .ok (.invokevirtual 152, 3) := dk_182 0 152 (dk_at dksX0_mendTold_3 19 rfl rfl)
theorem dX0_mendTold_93 : decode cX0_mendTold 93 = .ok (.checkcast 155, 3) := dk_192 0 155 (dk_at dksX0_mendTold_4 0 rfl rfl)
theorem dX0_mendTold_96 : decode cX0_mendTold 96 = .ok (.getfield 157, 3) := dk_180 0 157 (dk_at dksX0_mendTold_4 3 rfl rfl)
theorem dX0_mendTold_99 : decode cX0_mendTold 99 = .ok (.imul, 1) := dk_104 (dk_at dksX0_mendTold_4 6 rfl rfl)
theorem dX0_mendTold_100 : decode cX0_mendTold 100 = .ok (.iload 6, 2) := dk_21 6 (dk_at dksX0_mendTold_4 7 rfl rfl)
theorem dX0_mendTold_102 : decode cX0_mendTold 102 = .ok (.iadd, 1) := dk_96 (dk_at dksX0_mendTold_4 9 rfl rfl)
theorem dX0_mendTold_103 : decode cX0_mendTold 103 = .ok (.goto 5, 3) := dk_167 0 5 (dk_at dksX0_mendTold_4 10 rfl rfl)
theorem dX0_mendTold_106 : decode cX0_mendTold 106 = .ok (.iload 4, 2) := dk_21 4 (dk_at dksX0_mendTold_4 13 rfl rfl)
theorem dX0_mendTold_108 : decode cX0_mendTold 108 = .ok (.istore 4, 2) := dk_54 4 (dk_at dksX0_mendTold_4 15 rfl rfl)
theorem dX0_mendTold_110 : decode cX0_mendTold 110 = .ok (.iload_n 3, 1) := dk_29 (dk_at dksX0_mendTold_4 17 rfl rfl)
theorem dX0_mendTold_111 : decode cX0_mendTold 111 = .ok (.iload 7, 2) := dk_21 7 (dk_at dksX0_mendTold_4 18 rfl rfl)
theorem dX0_mendTold_113 : decode cX0_mendTold 113 = .ok (.invokestatic 246, 3) := dk_184 0 246 (dk_at dksX0_mendTold_4 20 rfl rfl)
theorem dX0_mendTold_116 : decode cX0_mendTold 116 = .ok (.istore_n 3, 1) := dk_62 (dk_at dksX0_mendTold_4 23 rfl rfl)
theorem dX0_mendTold_117 : decode cX0_mendTold 117 = .ok (.iinc 6 1, 3) := dk_132 6 1 (dk_at dksX0_mendTold_5 0 rfl rfl)
theorem dX0_mendTold_120 : decode cX0_mendTold 120 = .ok (.goto (-81), 3) := dk_167 255 175 (dk_at dksX0_mendTold_5 3 rfl rfl)
theorem dX0_mendTold_123 : decode cX0_mendTold 123 = .ok (.iinc 5 1, 3) := dk_132 5 1 (dk_at dksX0_mendTold_5 6 rfl rfl)
theorem dX0_mendTold_126 : decode cX0_mendTold 126 = .ok (.goto (-99), 3) := dk_167 255 157 (dk_at dksX0_mendTold_5 9 rfl rfl)
theorem dX0_mendTold_129 : decode cX0_mendTold 129 = .ok (.iload 4, 2) := dk_21 4 (dk_at dksX0_mendTold_5 12 rfl rfl)
theorem dX0_mendTold_131 : decode cX0_mendTold 131 = .ok (.bipush (-9), 2) := dk_16 247 (dk_at dksX0_mendTold_5 14 rfl rfl)
theorem dX0_mendTold_133 : decode cX0_mendTold 133 = .ok (.if_icmp .eq 7, 3) := dk_159 0 7 (dk_at dksX0_mendTold_5 16 rfl rfl)
theorem dX0_mendTold_136 : decode cX0_mendTold 136 = .ok (.iload_n 1, 1) := dk_27 (dk_at dksX0_mendTold_5 19 rfl rfl)
theorem dX0_mendTold_137 : decode cX0_mendTold 137 = .ok (.ifCond .ne 8, 3) := dk_154 0 8 (dk_at dksX0_mendTold_5 20 rfl rfl)
theorem dX0_mendTold_140 : decode cX0_mendTold 140 = .ok (.iload 4, 2) := dk_21 4 (dk_at dksX0_mendTold_6 0 rfl rfl)
theorem dX0_mendTold_142 : decode cX0_mendTold 142 = .ok (.goto 4, 3) := dk_167 0 4 (dk_at dksX0_mendTold_6 2 rfl rfl)
theorem dX0_mendTold_145 : decode cX0_mendTold 145 = .ok (.iload_n 3, 1) := dk_29 (dk_at dksX0_mendTold_6 5 rfl rfl)
theorem dX0_mendTold_146 : decode cX0_mendTold 146 = .ok (.ireturn, 1) := dk_172 (dk_at dksX0_mendTold_6 6 rfl rfl)
abbrev cX0_findingWith : ByteArray := prog_1_method_28_code
def yX0_findingWith : MethodName := ⟨RX0, "findingWith", "(II)LGathersAllFaults$Finding;"⟩
def dkwX0_findingWith_2 : List UInt8 := [182, 0, 218, 87, 25, 5, 191]
abbrev dktX0_findingWith_2 : List UInt8 := dkwX0_findingWith_2 ++ []
def dkwX0_findingWith_1 : List UInt8 := [180, 0, 66, 182, 0, 192, 58, 4, 42, 27, 45, 182, 0, 218, 87, 25, 4, 176, 58, 5, 42, 27, 45]
abbrev dktX0_findingWith_1 : List UInt8 := dkwX0_findingWith_1 ++ dktX0_findingWith_2
def dkwX0_findingWith_0 : List UInt8 := [42, 180, 0, 89, 28, 181, 0, 50, 42, 27, 42, 180, 0, 89, 182, 0, 218, 78, 42, 180, 0, 73, 42]
abbrev dktX0_findingWith_0 : List UInt8 := dkwX0_findingWith_0 ++ dktX0_findingWith_1
theorem dksX0_findingWith_0 : cX0_findingWith.data.toList.drop 0 = dktX0_findingWith_0 := by decide +kernel
theorem dksX0_findingWith_1 : cX0_findingWith.data.toList.drop 23 = dktX0_findingWith_1 := dk_seg dksX0_findingWith_0 23 rfl rfl
theorem dksX0_findingWith_2 : cX0_findingWith.data.toList.drop 46 = dktX0_findingWith_2 := dk_seg dksX0_findingWith_1 23 rfl rfl
theorem dX0_findingWith_0 : decode cX0_findingWith 0 = .ok (.aload_n 0, 1) := dk_42 (dk_at dksX0_findingWith_0 0 rfl rfl)
theorem dX0_findingWith_1 : decode cX0_findingWith 1 = .ok (.getfield 89, 3) := dk_180 0 89 (dk_at dksX0_findingWith_0 1 rfl rfl)
theorem dX0_findingWith_4 : decode cX0_findingWith 4 = .ok (.iload_n 2, 1) := dk_28 (dk_at dksX0_findingWith_0 4 rfl rfl)
theorem dX0_findingWith_5 : decode cX0_findingWith 5 = .ok (.putfield 50, 3) := dk_181 0 50 (dk_at dksX0_findingWith_0 5 rfl rfl)
theorem dX0_findingWith_8 : decode cX0_findingWith 8 = .ok (.aload_n 0, 1) := dk_42 (dk_at dksX0_findingWith_0 8 rfl rfl)
theorem dX0_findingWith_9 : decode cX0_findingWith 9 = .ok (.iload_n 1, 1) := dk_27 (dk_at dksX0_findingWith_0 9 rfl rfl)
theorem dX0_findingWith_10 : decode cX0_findingWith 10 = .ok (.aload_n 0, 1) := dk_42 (dk_at dksX0_findingWith_0 10 rfl rfl)
theorem dX0_findingWith_11 : decode cX0_findingWith 11 = .ok (.getfield 89, 3) := dk_180 0 89 (dk_at dksX0_findingWith_0 11 rfl rfl)
theorem dX0_findingWith_14 : decode cX0_findingWith 14 = .ok (.invokevirtual 218, 3) := dk_182 0 218 (dk_at dksX0_findingWith_0 14 rfl rfl)
theorem dX0_findingWith_17 : decode cX0_findingWith 17 = .ok (.astore_n 3, 1) := dk_78 (dk_at dksX0_findingWith_0 17 rfl rfl)
theorem dX0_findingWith_18 : decode cX0_findingWith 18 = .ok (.aload_n 0, 1) := dk_42 (dk_at dksX0_findingWith_0 18 rfl rfl)
theorem dX0_findingWith_19 : decode cX0_findingWith 19 = .ok (.getfield 73, 3) := dk_180 0 73 (dk_at dksX0_findingWith_0 19 rfl rfl)
theorem dX0_findingWith_22 : decode cX0_findingWith 22 = .ok (.aload_n 0, 1) := dk_42 (dk_at dksX0_findingWith_0 22 rfl rfl)
theorem dX0_findingWith_23 : decode cX0_findingWith 23 = .ok (.getfield 66, 3) := dk_180 0 66 (dk_at dksX0_findingWith_1 0 rfl rfl)
theorem dX0_findingWith_26 : decode cX0_findingWith 26 = .ok (.invokevirtual 192, 3) := dk_182 0 192 (dk_at dksX0_findingWith_1 3 rfl rfl)
theorem dX0_findingWith_29 : decode cX0_findingWith 29 = .ok (.astore 4, 2) := dk_58 4 (dk_at dksX0_findingWith_1 6 rfl rfl)
theorem dX0_findingWith_31 : decode cX0_findingWith 31 = .ok (.aload_n 0, 1) := dk_42 (dk_at dksX0_findingWith_1 8 rfl rfl)
theorem dX0_findingWith_32 : decode cX0_findingWith 32 = .ok (.iload_n 1, 1) := dk_27 (dk_at dksX0_findingWith_1 9 rfl rfl)
theorem dX0_findingWith_33 : decode cX0_findingWith 33 = .ok (.aload_n 3, 1) := dk_45 (dk_at dksX0_findingWith_1 10 rfl rfl)
theorem dX0_findingWith_34 : decode cX0_findingWith 34 = .ok (.invokevirtual 218, 3) := dk_182 0 218 (dk_at dksX0_findingWith_1 11 rfl rfl)
theorem dX0_findingWith_37 : decode cX0_findingWith 37 = .ok (.pop, 1) := dk_87 (dk_at dksX0_findingWith_1 14 rfl rfl)
theorem dX0_findingWith_38 : decode cX0_findingWith 38 = .ok (.aload 4, 2) := dk_25 4 (dk_at dksX0_findingWith_1 15 rfl rfl)
theorem dX0_findingWith_40 : decode cX0_findingWith 40 = .ok (.areturn, 1) := dk_176 (dk_at dksX0_findingWith_1 17 rfl rfl)
theorem dX0_findingWith_41 : decode cX0_findingWith 41 = .ok (.astore 5, 2) := dk_58 5 (dk_at dksX0_findingWith_1 18 rfl rfl)
theorem dX0_findingWith_43 : decode cX0_findingWith 43 = .ok (.aload_n 0, 1) := dk_42 (dk_at dksX0_findingWith_1 20 rfl rfl)
theorem dX0_findingWith_44 : decode cX0_findingWith 44 = .ok (.iload_n 1, 1) := dk_27 (dk_at dksX0_findingWith_1 21 rfl rfl)
theorem dX0_findingWith_45 : decode cX0_findingWith 45 = .ok (.aload_n 3, 1) := dk_45 (dk_at dksX0_findingWith_1 22 rfl rfl)
theorem dX0_findingWith_46 : decode cX0_findingWith 46 = .ok (.invokevirtual 218, 3) := dk_182 0 218 (dk_at dksX0_findingWith_2 0 rfl rfl)
theorem dX0_findingWith_49 : decode cX0_findingWith 49 = .ok (.pop, 1) := dk_87 (dk_at dksX0_findingWith_2 3 rfl rfl)
theorem dX0_findingWith_50 : decode cX0_findingWith 50 = .ok (.aload 5, 2) := dk_25 5 (dk_at dksX0_findingWith_2 4 rfl rfl)
theorem dX0_findingWith_52 : decode cX0_findingWith 52 = .ok (.athrow, 1) := dk_191 (dk_at dksX0_findingWith_2 6 rfl rfl)
abbrev cX0_swap : ByteArray := prog_1_method_27_code
def yX0_swap : MethodName := ⟨RX0, "swap", "(ILGathersAllFaults$Value;)LGathersAllFaults$Value;"⟩
def dkwX0_swap_6 : List UInt8 := [44, 83, 25, 6, 176]
abbrev dktX0_swap_6 : List UInt8 := dkwX0_swap_6 ++ []
def dkwX0_swap_5 : List UInt8 := [193, 0, 213, 153, 0, 23, 25, 4, 192, 0, 213, 58, 8, 25, 8, 180, 0, 215, 21, 5, 4, 100, 8, 100]
abbrev dktX0_swap_5 : List UInt8 := dkwX0_swap_5 ++ dktX0_swap_6
def dkwX0_swap_4 : List UInt8 := [58, 7, 25, 7, 180, 0, 198, 21, 5, 184, 0, 202, 44, 182, 0, 208, 87, 167, 0, 31, 25, 4]
abbrev dktX0_swap_4 : List UInt8 := dkwX0_swap_4 ++ dktX0_swap_5
def dkwX0_swap_3 : List UInt8 := [54, 5, 25, 4, 21, 5, 182, 0, 162, 58, 6, 25, 4, 193, 0, 196, 153, 0, 28, 25, 4, 192, 0, 196]
abbrev dktX0_swap_3 : List UInt8 := dkwX0_swap_3 ++ dktX0_swap_4
def dkwX0_swap_2 : List UInt8 := [27, 29, 108, 16, 10, 112, 182, 0, 162, 58, 4, 29, 16, 10, 108, 62, 167, 255, 233, 27, 16, 10, 112]
abbrev dktX0_swap_2 : List UInt8 := dkwX0_swap_2 ++ dktX0_swap_3
def dkwX0_swap_1 : List UInt8 := [164, 0, 11, 29, 16, 10, 104, 62, 167, 255, 243, 42, 180, 0, 66, 58, 4, 29, 4, 164, 0, 24, 25, 4]
abbrev dktX0_swap_1 : List UInt8 := dkwX0_swap_1 ++ dktX0_swap_2
def dkwX0_swap_0 : List UInt8 := [27, 154, 0, 15, 42, 180, 0, 66, 78, 42, 44, 181, 0, 66, 45, 176, 4, 62, 27, 29, 108, 16, 9]
abbrev dktX0_swap_0 : List UInt8 := dkwX0_swap_0 ++ dktX0_swap_1
theorem dksX0_swap_0 : cX0_swap.data.toList.drop 0 = dktX0_swap_0 := by decide +kernel
theorem dksX0_swap_1 : cX0_swap.data.toList.drop 23 = dktX0_swap_1 := dk_seg dksX0_swap_0 23 rfl rfl
theorem dksX0_swap_2 : cX0_swap.data.toList.drop 47 = dktX0_swap_2 := dk_seg dksX0_swap_1 24 rfl rfl
theorem dksX0_swap_3 : cX0_swap.data.toList.drop 70 = dktX0_swap_3 := dk_seg dksX0_swap_2 23 rfl rfl
theorem dksX0_swap_4 : cX0_swap.data.toList.drop 94 = dktX0_swap_4 := dk_seg dksX0_swap_3 24 rfl rfl
theorem dksX0_swap_5 : cX0_swap.data.toList.drop 116 = dktX0_swap_5 := dk_seg dksX0_swap_4 22 rfl rfl
theorem dksX0_swap_6 : cX0_swap.data.toList.drop 140 = dktX0_swap_6 := dk_seg dksX0_swap_5 24 rfl rfl
theorem dX0_swap_0 : decode cX0_swap 0 = .ok (.iload_n 1, 1) := dk_27 (dk_at dksX0_swap_0 0 rfl rfl)
theorem dX0_swap_1 : decode cX0_swap 1 = .ok (.ifCond .ne 15, 3) := dk_154 0 15 (dk_at dksX0_swap_0 1 rfl rfl)
theorem dX0_swap_4 : decode cX0_swap 4 = .ok (.aload_n 0, 1) := dk_42 (dk_at dksX0_swap_0 4 rfl rfl)
theorem dX0_swap_5 : decode cX0_swap 5 = .ok (.getfield 66, 3) := dk_180 0 66 (dk_at dksX0_swap_0 5 rfl rfl)
theorem dX0_swap_8 : decode cX0_swap 8 = .ok (.astore_n 3, 1) := dk_78 (dk_at dksX0_swap_0 8 rfl rfl)
theorem dX0_swap_9 : decode cX0_swap 9 = .ok (.aload_n 0, 1) := dk_42 (dk_at dksX0_swap_0 9 rfl rfl)
theorem dX0_swap_10 : decode cX0_swap 10 = .ok (.aload_n 2, 1) := dk_44 (dk_at dksX0_swap_0 10 rfl rfl)
theorem dX0_swap_11 : decode cX0_swap 11 = .ok (.putfield 66, 3) := dk_181 0 66 (dk_at dksX0_swap_0 11 rfl rfl)
theorem dX0_swap_14 : decode cX0_swap 14 = .ok (.aload_n 3, 1) := dk_45 (dk_at dksX0_swap_0 14 rfl rfl)
theorem dX0_swap_15 : decode cX0_swap 15 = .ok (.areturn, 1) := dk_176 (dk_at dksX0_swap_0 15 rfl rfl)
theorem dX0_swap_16 : decode cX0_swap 16 = .ok (.iconst 1, 1) := dk_4 (dk_at dksX0_swap_0 16 rfl rfl)
theorem dX0_swap_17 : decode cX0_swap 17 = .ok (.istore_n 3, 1) := dk_62 (dk_at dksX0_swap_0 17 rfl rfl)
theorem dX0_swap_18 : decode cX0_swap 18 = .ok (.iload_n 1, 1) := dk_27 (dk_at dksX0_swap_0 18 rfl rfl)
theorem dX0_swap_19 : decode cX0_swap 19 = .ok (.iload_n 3, 1) := dk_29 (dk_at dksX0_swap_0 19 rfl rfl)
theorem dX0_swap_20 : decode cX0_swap 20 = .ok (.idiv, 1) := dk_108 (dk_at dksX0_swap_0 20 rfl rfl)
theorem dX0_swap_21 : decode cX0_swap 21 = .ok (.bipush 9, 2) := dk_16 9 (dk_at dksX0_swap_0 21 rfl rfl)
theorem dX0_swap_23 : decode cX0_swap 23 = .ok (.if_icmp .le 11, 3) := dk_164 0 11 (dk_at dksX0_swap_1 0 rfl rfl)
theorem dX0_swap_26 : decode cX0_swap 26 = .ok (.iload_n 3, 1) := dk_29 (dk_at dksX0_swap_1 3 rfl rfl)
theorem dX0_swap_27 : decode cX0_swap 27 = .ok (.bipush 10, 2) := dk_16 10 (dk_at dksX0_swap_1 4 rfl rfl)
theorem dX0_swap_29 : decode cX0_swap 29 = .ok (.imul, 1) := dk_104 (dk_at dksX0_swap_1 6 rfl rfl)
theorem dX0_swap_30 : decode cX0_swap 30 = .ok (.istore_n 3, 1) := dk_62 (dk_at dksX0_swap_1 7 rfl rfl)
theorem dX0_swap_31 : decode cX0_swap 31 = .ok (.goto (-13), 3) := dk_167 255 243 (dk_at dksX0_swap_1 8 rfl rfl)
theorem dX0_swap_34 : decode cX0_swap 34 = .ok (.aload_n 0, 1) := dk_42 (dk_at dksX0_swap_1 11 rfl rfl)
theorem dX0_swap_35 : decode cX0_swap 35 = .ok (.getfield 66, 3) := dk_180 0 66 (dk_at dksX0_swap_1 12 rfl rfl)
theorem dX0_swap_38 : decode cX0_swap 38 = .ok (.astore 4, 2) := dk_58 4 (dk_at dksX0_swap_1 15 rfl rfl)
theorem dX0_swap_40 : decode cX0_swap 40 = .ok (.iload_n 3, 1) := dk_29 (dk_at dksX0_swap_1 17 rfl rfl)
theorem dX0_swap_41 : decode cX0_swap 41 = .ok (.iconst 1, 1) := dk_4 (dk_at dksX0_swap_1 18 rfl rfl)
theorem dX0_swap_42 : decode cX0_swap 42 = .ok (.if_icmp .le 24, 3) := dk_164 0 24 (dk_at dksX0_swap_1 19 rfl rfl)
theorem dX0_swap_45 : decode cX0_swap 45 = .ok (.aload 4, 2) := dk_25 4 (dk_at dksX0_swap_1 22 rfl rfl)
theorem dX0_swap_47 : decode cX0_swap 47 = .ok (.iload_n 1, 1) := dk_27 (dk_at dksX0_swap_2 0 rfl rfl)
theorem dX0_swap_48 : decode cX0_swap 48 = .ok (.iload_n 3, 1) := dk_29 (dk_at dksX0_swap_2 1 rfl rfl)
theorem dX0_swap_49 : decode cX0_swap 49 = .ok (.idiv, 1) := dk_108 (dk_at dksX0_swap_2 2 rfl rfl)
theorem dX0_swap_50 : decode cX0_swap 50 = .ok (.bipush 10, 2) := dk_16 10 (dk_at dksX0_swap_2 3 rfl rfl)
theorem dX0_swap_52 : decode cX0_swap 52 = .ok (.irem, 1) := dk_112 (dk_at dksX0_swap_2 5 rfl rfl)
theorem dX0_swap_53 : decode cX0_swap 53 = .ok (.invokevirtual 162, 3) := dk_182 0 162 (dk_at dksX0_swap_2 6 rfl rfl)
theorem dX0_swap_56 : decode cX0_swap 56 = .ok (.astore 4, 2) := dk_58 4 (dk_at dksX0_swap_2 9 rfl rfl)
theorem dX0_swap_58 : decode cX0_swap 58 = .ok (.iload_n 3, 1) := dk_29 (dk_at dksX0_swap_2 11 rfl rfl)
theorem dX0_swap_59 : decode cX0_swap 59 = .ok (.bipush 10, 2) := dk_16 10 (dk_at dksX0_swap_2 12 rfl rfl)
theorem dX0_swap_61 : decode cX0_swap 61 = .ok (.idiv, 1) := dk_108 (dk_at dksX0_swap_2 14 rfl rfl)
theorem dX0_swap_62 : decode cX0_swap 62 = .ok (.istore_n 3, 1) := dk_62 (dk_at dksX0_swap_2 15 rfl rfl)
theorem dX0_swap_63 : decode cX0_swap 63 = .ok (.goto (-23), 3) := dk_167 255 233 (dk_at dksX0_swap_2 16 rfl rfl)
theorem dX0_swap_66 : decode cX0_swap 66 = .ok (.iload_n 1, 1) := dk_27 (dk_at dksX0_swap_2 19 rfl rfl)
theorem dX0_swap_67 : decode cX0_swap 67 = .ok (.bipush 10, 2) := dk_16 10 (dk_at dksX0_swap_2 20 rfl rfl)
theorem dX0_swap_69 : decode cX0_swap 69 = .ok (.irem, 1) := dk_112 (dk_at dksX0_swap_2 22 rfl rfl)
theorem dX0_swap_70 : decode cX0_swap 70 = .ok (.istore 5, 2) := dk_54 5 (dk_at dksX0_swap_3 0 rfl rfl)
theorem dX0_swap_72 : decode cX0_swap 72 = .ok (.aload 4, 2) := dk_25 4 (dk_at dksX0_swap_3 2 rfl rfl)
theorem dX0_swap_74 : decode cX0_swap 74 = .ok (.iload 5, 2) := dk_21 5 (dk_at dksX0_swap_3 4 rfl rfl)
theorem dX0_swap_76 : decode cX0_swap 76 = .ok (.invokevirtual 162, 3) := dk_182 0 162 (dk_at dksX0_swap_3 6 rfl rfl)
theorem dX0_swap_79 : decode cX0_swap 79 = .ok (.astore 6, 2) := dk_58 6 (dk_at dksX0_swap_3 9 rfl rfl)
theorem dX0_swap_81 : decode cX0_swap 81 = .ok (.aload 4, 2) := dk_25 4 (dk_at dksX0_swap_3 11 rfl rfl)
theorem dX0_swap_83 : decode cX0_swap 83 = .ok (.instanceof 196, 3) := dk_193 0 196 (dk_at dksX0_swap_3 13 rfl rfl)
theorem dX0_swap_86 : decode cX0_swap 86 = .ok (.ifCond .eq 28, 3) := dk_153 0 28 (dk_at dksX0_swap_3 16 rfl rfl)
theorem dX0_swap_89 : decode cX0_swap 89 = .ok (.aload 4, 2) := dk_25 4 (dk_at dksX0_swap_3 19 rfl rfl)
theorem dX0_swap_91 : decode cX0_swap 91 = .ok (.checkcast 196, 3) := dk_192 0 196 (dk_at dksX0_swap_3 21 rfl rfl)
theorem dX0_swap_94 : decode cX0_swap 94 = .ok (.astore 7, 2) := dk_58 7 (dk_at dksX0_swap_4 0 rfl rfl)
theorem dX0_swap_96 : decode cX0_swap 96 = .ok (.aload 7, 2) := dk_25 7 (dk_at dksX0_swap_4 2 rfl rfl)
theorem dX0_swap_98 : decode cX0_swap 98 = .ok (.getfield 198, 3) := dk_180 0 198 (dk_at dksX0_swap_4 4 rfl rfl)
theorem dX0_swap_101 : decode cX0_swap 101 = .ok (.iload 5, 2) := dk_21 5 (dk_at dksX0_swap_4 7 rfl rfl)
theorem dX0_swap_103 : decode cX0_swap 103 = .ok (.invokestatic 202, 3) := dk_184 0 202 (dk_at dksX0_swap_4 9 rfl rfl)
theorem dX0_swap_106 : decode cX0_swap 106 = .ok (.aload_n 2, 1) := dk_44 (dk_at dksX0_swap_4 12 rfl rfl)
theorem dX0_swap_107 : decode cX0_swap 107 = .ok (.invokevirtual 208, 3) := dk_182 0 208 (dk_at dksX0_swap_4 13 rfl rfl)
theorem dX0_swap_110 : decode cX0_swap 110 = .ok (.pop, 1) := dk_87 (dk_at dksX0_swap_4 16 rfl rfl)
theorem dX0_swap_111 : decode cX0_swap 111 = .ok (.goto 31, 3) := dk_167 0 31 (dk_at dksX0_swap_4 17 rfl rfl)
theorem dX0_swap_114 : decode cX0_swap 114 = .ok (.aload 4, 2) := dk_25 4 (dk_at dksX0_swap_4 20 rfl rfl)
theorem dX0_swap_116 : decode cX0_swap 116 = .ok (.instanceof 213, 3) := dk_193 0 213 (dk_at dksX0_swap_5 0 rfl rfl)
theorem dX0_swap_119 : decode cX0_swap 119 = .ok (.ifCond .eq 23, 3) := dk_153 0 23 (dk_at dksX0_swap_5 3 rfl rfl)
theorem dX0_swap_122 : decode cX0_swap 122 = .ok (.aload 4, 2) := dk_25 4 (dk_at dksX0_swap_5 6 rfl rfl)
theorem dX0_swap_124 : decode cX0_swap 124 = .ok (.checkcast 213, 3) := dk_192 0 213 (dk_at dksX0_swap_5 8 rfl rfl)
theorem dX0_swap_127 : decode cX0_swap 127 = .ok (.astore 8, 2) := dk_58 8 (dk_at dksX0_swap_5 11 rfl rfl)
theorem dX0_swap_129 : decode cX0_swap 129 = .ok (.aload 8, 2) := dk_25 8 (dk_at dksX0_swap_5 13 rfl rfl)
theorem dX0_swap_131 : decode cX0_swap 131 = .ok (.getfield 215, 3) := dk_180 0 215 (dk_at dksX0_swap_5 15 rfl rfl)
theorem dX0_swap_134 : decode cX0_swap 134 = .ok (.iload 5, 2) := dk_21 5 (dk_at dksX0_swap_5 18 rfl rfl)
theorem dX0_swap_136 : decode cX0_swap 136 = .ok (.iconst 1, 1) := dk_4 (dk_at dksX0_swap_5 20 rfl rfl)
theorem dX0_swap_137 : decode cX0_swap 137 = .ok (.isub, 1) := dk_100 (dk_at dksX0_swap_5 21 rfl rfl)
theorem dX0_swap_138 : decode cX0_swap 138 = .ok (.iconst 5, 1) := dk_8 (dk_at dksX0_swap_5 22 rfl rfl)
theorem dX0_swap_139 : decode cX0_swap 139 = .ok (.isub, 1) := dk_100 (dk_at dksX0_swap_5 23 rfl rfl)
theorem dX0_swap_140 : decode cX0_swap 140 = .ok (.aload_n 2, 1) := dk_44 (dk_at dksX0_swap_6 0 rfl rfl)
theorem dX0_swap_141 : decode cX0_swap 141 = .ok (.aastore, 1) := dk_83 (dk_at dksX0_swap_6 1 rfl rfl)
theorem dX0_swap_142 : decode cX0_swap 142 = .ok (.aload 6, 2) := dk_25 6 (dk_at dksX0_swap_6 2 rfl rfl)
theorem dX0_swap_144 : decode cX0_swap 144 = .ok (.areturn, 1) := dk_176 (dk_at dksX0_swap_6 4 rfl rfl)
abbrev cX0_rangeTold : ByteArray := prog_1_method_38_code
def yX0_rangeTold : MethodName := ⟨RX0, "rangeTold", "(II)I"⟩
def dkwX0_rangeTold_2 : List UInt8 := [21, 4, 172, 132, 3, 1, 167, 255, 216, 16, 247, 172]
abbrev dktX0_rangeTold_2 : List UInt8 := dkwX0_rangeTold_2 ++ []
def dkwX0_rangeTold_1 : List UInt8 := [167, 0, 7, 16, 99, 29, 100, 54, 4, 42, 27, 21, 4, 182, 1, 26, 27, 182, 0, 242, 154, 0, 6]
abbrev dktX0_rangeTold_1 : List UInt8 := dkwX0_rangeTold_1 ++ dktX0_rangeTold_2
def dkwX0_rangeTold_0 : List UInt8 := [42, 27, 182, 0, 173, 87, 28, 184, 0, 226, 3, 62, 29, 16, 99, 163, 0, 40, 28, 154, 0, 7, 29]
abbrev dktX0_rangeTold_0 : List UInt8 := dkwX0_rangeTold_0 ++ dktX0_rangeTold_1
theorem dksX0_rangeTold_0 : cX0_rangeTold.data.toList.drop 0 = dktX0_rangeTold_0 := by decide +kernel
theorem dksX0_rangeTold_1 : cX0_rangeTold.data.toList.drop 23 = dktX0_rangeTold_1 := dk_seg dksX0_rangeTold_0 23 rfl rfl
theorem dksX0_rangeTold_2 : cX0_rangeTold.data.toList.drop 46 = dktX0_rangeTold_2 := dk_seg dksX0_rangeTold_1 23 rfl rfl
theorem dX0_rangeTold_0 : decode cX0_rangeTold 0 = .ok (.aload_n 0, 1) := dk_42 (dk_at dksX0_rangeTold_0 0 rfl rfl)
theorem dX0_rangeTold_1 : decode cX0_rangeTold 1 = .ok (.iload_n 1, 1) := dk_27 (dk_at dksX0_rangeTold_0 1 rfl rfl)
theorem dX0_rangeTold_2 : decode cX0_rangeTold 2 = .ok (.invokevirtual 173, 3) := dk_182 0 173 (dk_at dksX0_rangeTold_0 2 rfl rfl)
theorem dX0_rangeTold_5 : decode cX0_rangeTold 5 = .ok (.pop, 1) := dk_87 (dk_at dksX0_rangeTold_0 5 rfl rfl)
theorem dX0_rangeTold_6 : decode cX0_rangeTold 6 = .ok (.iload_n 2, 1) := dk_28 (dk_at dksX0_rangeTold_0 6 rfl rfl)
theorem dX0_rangeTold_7 : decode cX0_rangeTold 7 = .ok (.invokestatic 226, 3) := dk_184 0 226 (dk_at dksX0_rangeTold_0 7 rfl rfl)
theorem dX0_rangeTold_10 : decode cX0_rangeTold 10 = .ok (.iconst 0, 1) := dk_3 (dk_at dksX0_rangeTold_0 10 rfl rfl)
theorem dX0_rangeTold_11 : decode cX0_rangeTold 11 = .ok (.istore_n 3, 1) := dk_62 (dk_at dksX0_rangeTold_0 11 rfl rfl)
theorem dX0_rangeTold_12 : decode cX0_rangeTold 12 = .ok (.iload_n 3, 1) := dk_29 (dk_at dksX0_rangeTold_0 12 rfl rfl)
theorem dX0_rangeTold_13 : decode cX0_rangeTold 13 = .ok (.bipush 99, 2) := dk_16 99 (dk_at dksX0_rangeTold_0 13 rfl rfl)
theorem dX0_rangeTold_15 : decode cX0_rangeTold 15 = .ok (.if_icmp .gt 40, 3) := dk_163 0 40 (dk_at dksX0_rangeTold_0 15 rfl rfl)
theorem dX0_rangeTold_18 : decode cX0_rangeTold 18 = .ok (.iload_n 2, 1) := dk_28 (dk_at dksX0_rangeTold_0 18 rfl rfl)
theorem dX0_rangeTold_19 : decode cX0_rangeTold 19 = .ok (.ifCond .ne 7, 3) := dk_154 0 7 (dk_at dksX0_rangeTold_0 19 rfl rfl)
theorem dX0_rangeTold_22 : decode cX0_rangeTold 22 = .ok (.iload_n 3, 1) := dk_29 (dk_at dksX0_rangeTold_0 22 rfl rfl)
theorem dX0_rangeTold_23 : decode cX0_rangeTold 23 = .ok (.goto 7, 3) := dk_167 0 7 (dk_at dksX0_rangeTold_1 0 rfl rfl)
theorem dX0_rangeTold_26 : decode cX0_rangeTold 26 = .ok (.bipush 99, 2) := dk_16 99 (dk_at dksX0_rangeTold_1 3 rfl rfl)
theorem dX0_rangeTold_28 : decode cX0_rangeTold 28 = .ok (.iload_n 3, 1) := dk_29 (dk_at dksX0_rangeTold_1 5 rfl rfl)
theorem dX0_rangeTold_29 : decode cX0_rangeTold 29 = .ok (.isub, 1) := dk_100 (dk_at dksX0_rangeTold_1 6 rfl rfl)
theorem dX0_rangeTold_30 : decode cX0_rangeTold 30 = .ok (.istore 4, 2) := dk_54 4 (dk_at dksX0_rangeTold_1 7 rfl rfl)
theorem dX0_rangeTold_32 : decode cX0_rangeTold 32 = .ok (.aload_n 0, 1) := dk_42 (dk_at dksX0_rangeTold_1 9 rfl rfl)
theorem dX0_rangeTold_33 : decode cX0_rangeTold 33 = .ok (.iload_n 1, 1) := dk_27 (dk_at dksX0_rangeTold_1 10 rfl rfl)
theorem dX0_rangeTold_34 : decode cX0_rangeTold 34 = .ok (.iload 4, 2) := dk_21 4 (dk_at dksX0_rangeTold_1 11 rfl rfl)
theorem dX0_rangeTold_36 : decode cX0_rangeTold 36 = .ok (.invokevirtual 282, 3) := dk_182 1 26 (dk_at dksX0_rangeTold_1 13 rfl rfl)
theorem dX0_rangeTold_39 : decode cX0_rangeTold 39 = .ok (.iload_n 1, 1) := dk_27 (dk_at dksX0_rangeTold_1 16 rfl rfl)
theorem dX0_rangeTold_40 : decode cX0_rangeTold 40 = .ok (.invokevirtual 242, 3) := dk_182 0 242 (dk_at dksX0_rangeTold_1 17 rfl rfl)
theorem dX0_rangeTold_43 : decode cX0_rangeTold 43 = .ok (.ifCond .ne 6, 3) := dk_154 0 6 (dk_at dksX0_rangeTold_1 20 rfl rfl)
theorem dX0_rangeTold_46 : decode cX0_rangeTold 46 = .ok (.iload 4, 2) := dk_21 4 (dk_at dksX0_rangeTold_2 0 rfl rfl)
theorem dX0_rangeTold_48 : decode cX0_rangeTold 48 = .ok (.ireturn, 1) := dk_172 (dk_at dksX0_rangeTold_2 2 rfl rfl)
theorem dX0_rangeTold_49 : decode cX0_rangeTold 49 = .ok (.iinc 3 1, 3) := dk_132 3 1 (dk_at dksX0_rangeTold_2 3 rfl rfl)
theorem dX0_rangeTold_52 : decode cX0_rangeTold 52 = .ok (.goto (-40), 3) := dk_167 255 216 (dk_at dksX0_rangeTold_2 6 rfl rfl)
theorem dX0_rangeTold_55 : decode cX0_rangeTold 55 = .ok (.bipush (-9), 2) := dk_16 247 (dk_at dksX0_rangeTold_2 9 rfl rfl)
theorem dX0_rangeTold_57 : decode cX0_rangeTold 57 = .ok (.ireturn, 1) := dk_172 (dk_at dksX0_rangeTold_2 11 rfl rfl)
abbrev cX0_whichTold : ByteArray := prog_1_method_41_code
def yX0_whichTold : MethodName := ⟨RX0, "whichTold", "(I)I"⟩
def dkwX0_whichTold_1 : List UInt8 := [182, 1, 48, 153, 0, 9, 4, 29, 120, 167, 0, 4, 3, 128, 61, 132, 3, 1, 167, 255, 224, 28, 172]
abbrev dktX0_whichTold_1 : List UInt8 := dkwX0_whichTold_1 ++ []
def dkwX0_whichTold_0 : List UInt8 := [42, 27, 182, 0, 173, 87, 3, 61, 3, 62, 29, 16, 16, 162, 0, 32, 28, 42, 42, 27, 29, 182, 1, 26]
abbrev dktX0_whichTold_0 : List UInt8 := dkwX0_whichTold_0 ++ dktX0_whichTold_1
theorem dksX0_whichTold_0 : cX0_whichTold.data.toList.drop 0 = dktX0_whichTold_0 := by decide +kernel
theorem dksX0_whichTold_1 : cX0_whichTold.data.toList.drop 24 = dktX0_whichTold_1 := dk_seg dksX0_whichTold_0 24 rfl rfl
theorem dX0_whichTold_0 : decode cX0_whichTold 0 = .ok (.aload_n 0, 1) := dk_42 (dk_at dksX0_whichTold_0 0 rfl rfl)
theorem dX0_whichTold_1 : decode cX0_whichTold 1 = .ok (.iload_n 1, 1) := dk_27 (dk_at dksX0_whichTold_0 1 rfl rfl)
theorem dX0_whichTold_2 : decode cX0_whichTold 2 = .ok (.invokevirtual 173, 3) := dk_182 0 173 (dk_at dksX0_whichTold_0 2 rfl rfl)
theorem dX0_whichTold_5 : decode cX0_whichTold 5 = .ok (.pop, 1) := dk_87 (dk_at dksX0_whichTold_0 5 rfl rfl)
theorem dX0_whichTold_6 : decode cX0_whichTold 6 = .ok (.iconst 0, 1) := dk_3 (dk_at dksX0_whichTold_0 6 rfl rfl)
theorem dX0_whichTold_7 : decode cX0_whichTold 7 = .ok (.istore_n 2, 1) := dk_61 (dk_at dksX0_whichTold_0 7 rfl rfl)
theorem dX0_whichTold_8 : decode cX0_whichTold 8 = .ok (.iconst 0, 1) := dk_3 (dk_at dksX0_whichTold_0 8 rfl rfl)
theorem dX0_whichTold_9 : decode cX0_whichTold 9 = .ok (.istore_n 3, 1) := dk_62 (dk_at dksX0_whichTold_0 9 rfl rfl)
theorem dX0_whichTold_10 : decode cX0_whichTold 10 = .ok (.iload_n 3, 1) := dk_29 (dk_at dksX0_whichTold_0 10 rfl rfl)
theorem dX0_whichTold_11 : decode cX0_whichTold 11 = .ok (.bipush 16, 2) := dk_16 16 (dk_at dksX0_whichTold_0 11 rfl rfl)
theorem dX0_whichTold_13 : decode cX0_whichTold 13 = .ok (.if_icmp .ge 32, 3) := dk_162 0 32 (dk_at dksX0_whichTold_0 13 rfl rfl)
theorem dX0_whichTold_16 : decode cX0_whichTold 16 = .ok (.iload_n 2, 1) := dk_28 (dk_at dksX0_whichTold_0 16 rfl rfl)
theorem dX0_whichTold_17 : decode cX0_whichTold 17 = .ok (.aload_n 0, 1) := dk_42 (dk_at dksX0_whichTold_0 17 rfl rfl)
theorem dX0_whichTold_18 : decode cX0_whichTold 18 = .ok (.aload_n 0, 1) := dk_42 (dk_at dksX0_whichTold_0 18 rfl rfl)
theorem dX0_whichTold_19 : decode cX0_whichTold 19 = .ok (.iload_n 1, 1) := dk_27 (dk_at dksX0_whichTold_0 19 rfl rfl)
theorem dX0_whichTold_20 : decode cX0_whichTold 20 = .ok (.iload_n 3, 1) := dk_29 (dk_at dksX0_whichTold_0 20 rfl rfl)
theorem dX0_whichTold_21 : decode cX0_whichTold 21 = .ok (.invokevirtual 282, 3) := dk_182 1 26 (dk_at dksX0_whichTold_0 21 rfl rfl)
theorem dX0_whichTold_24 : decode cX0_whichTold 24 = .ok (.invokevirtual 304, 3) := dk_182 1 48 (dk_at dksX0_whichTold_1 0 rfl rfl)
theorem dX0_whichTold_27 : decode cX0_whichTold 27 = .ok (.ifCond .eq 9, 3) := dk_153 0 9 (dk_at dksX0_whichTold_1 3 rfl rfl)
theorem dX0_whichTold_30 : decode cX0_whichTold 30 = .ok (.iconst 1, 1) := dk_4 (dk_at dksX0_whichTold_1 6 rfl rfl)
theorem dX0_whichTold_31 : decode cX0_whichTold 31 = .ok (.iload_n 3, 1) := dk_29 (dk_at dksX0_whichTold_1 7 rfl rfl)
theorem dX0_whichTold_32 : decode cX0_whichTold 32 = .ok (.ishl, 1) := dk_120 (dk_at dksX0_whichTold_1 8 rfl rfl)
theorem dX0_whichTold_33 : decode cX0_whichTold 33 = .ok (.goto 4, 3) := dk_167 0 4 (dk_at dksX0_whichTold_1 9 rfl rfl)
theorem dX0_whichTold_36 : decode cX0_whichTold 36 = .ok (.iconst 0, 1) := dk_3 (dk_at dksX0_whichTold_1 12 rfl rfl)
theorem dX0_whichTold_37 : decode cX0_whichTold 37 = .ok (.ior, 1) := dk_128 (dk_at dksX0_whichTold_1 13 rfl rfl)
theorem dX0_whichTold_38 : decode cX0_whichTold 38 = .ok (.istore_n 2, 1) := dk_61 (dk_at dksX0_whichTold_1 14 rfl rfl)
theorem dX0_whichTold_39 : decode cX0_whichTold 39 = .ok (.iinc 3 1, 3) := dk_132 3 1 (dk_at dksX0_whichTold_1 15 rfl rfl)
theorem dX0_whichTold_42 : decode cX0_whichTold 42 = .ok (.goto (-32), 3) := dk_167 255 224 (dk_at dksX0_whichTold_1 18 rfl rfl)
theorem dX0_whichTold_45 : decode cX0_whichTold 45 = .ok (.iload_n 2, 1) := dk_28 (dk_at dksX0_whichTold_1 21 rfl rfl)
theorem dX0_whichTold_46 : decode cX0_whichTold 46 = .ok (.ireturn, 1) := dk_172 (dk_at dksX0_whichTold_1 22 rfl rfl)
abbrev cX0_isRowOf : ByteArray := prog_1_method_40_code
def yX0_isRowOf : MethodName := ⟨RX0, "isRowOf", "(LGathersAllFaults$Finding;)Z"⟩
def dkwX0_isRowOf_2 : List UInt8 := [159, 0, 5, 3, 172, 132, 2, 1, 167, 255, 220, 4, 172]
abbrev dktX0_isRowOf_2 : List UInt8 := dkwX0_isRowOf_2 ++ []
def dkwX0_isRowOf_1 : List UInt8 := [162, 0, 34, 43, 180, 0, 221, 28, 182, 0, 152, 192, 0, 232, 180, 0, 235, 42, 180, 0, 77, 28, 51]
abbrev dktX0_isRowOf_1 : List UInt8 := dkwX0_isRowOf_1 ++ dktX0_isRowOf_2
def dkwX0_isRowOf_0 : List UInt8 := [42, 180, 1, 45, 43, 180, 0, 221, 180, 0, 149, 164, 0, 5, 3, 172, 3, 61, 28, 42, 180, 1, 45]
abbrev dktX0_isRowOf_0 : List UInt8 := dkwX0_isRowOf_0 ++ dktX0_isRowOf_1
theorem dksX0_isRowOf_0 : cX0_isRowOf.data.toList.drop 0 = dktX0_isRowOf_0 := by decide +kernel
theorem dksX0_isRowOf_1 : cX0_isRowOf.data.toList.drop 23 = dktX0_isRowOf_1 := dk_seg dksX0_isRowOf_0 23 rfl rfl
theorem dksX0_isRowOf_2 : cX0_isRowOf.data.toList.drop 46 = dktX0_isRowOf_2 := dk_seg dksX0_isRowOf_1 23 rfl rfl
theorem dX0_isRowOf_0 : decode cX0_isRowOf 0 = .ok (.aload_n 0, 1) := dk_42 (dk_at dksX0_isRowOf_0 0 rfl rfl)
theorem dX0_isRowOf_1 : decode cX0_isRowOf 1 = .ok (.getfield 301, 3) := dk_180 1 45 (dk_at dksX0_isRowOf_0 1 rfl rfl)
theorem dX0_isRowOf_4 : decode cX0_isRowOf 4 = .ok (.aload_n 1, 1) := dk_43 (dk_at dksX0_isRowOf_0 4 rfl rfl)
theorem dX0_isRowOf_5 : decode cX0_isRowOf 5 = .ok (.getfield 221, 3) := dk_180 0 221 (dk_at dksX0_isRowOf_0 5 rfl rfl)
theorem dX0_isRowOf_8 : decode cX0_isRowOf 8 = .ok (.getfield 149, 3) := dk_180 0 149 (dk_at dksX0_isRowOf_0 8 rfl rfl)
theorem dX0_isRowOf_11 : decode cX0_isRowOf 11 = .ok (.if_icmp .le 5, 3) := dk_164 0 5 (dk_at dksX0_isRowOf_0 11 rfl rfl)
theorem dX0_isRowOf_14 : decode cX0_isRowOf 14 = .ok (.iconst 0, 1) := dk_3 (dk_at dksX0_isRowOf_0 14 rfl rfl)
theorem dX0_isRowOf_15 : decode cX0_isRowOf 15 = .ok (.ireturn, 1) := dk_172 (dk_at dksX0_isRowOf_0 15 rfl rfl)
theorem dX0_isRowOf_16 : decode cX0_isRowOf 16 = .ok (.iconst 0, 1) := dk_3 (dk_at dksX0_isRowOf_0 16 rfl rfl)
theorem dX0_isRowOf_17 : decode cX0_isRowOf 17 = .ok (.istore_n 2, 1) := dk_61 (dk_at dksX0_isRowOf_0 17 rfl rfl)
theorem dX0_isRowOf_18 : decode cX0_isRowOf 18 = .ok (.iload_n 2, 1) := dk_28 (dk_at dksX0_isRowOf_0 18 rfl rfl)
theorem dX0_isRowOf_19 : decode cX0_isRowOf 19 = .ok (.aload_n 0, 1) := dk_42 (dk_at dksX0_isRowOf_0 19 rfl rfl)
theorem dX0_isRowOf_20 : decode cX0_isRowOf 20 = .ok (.getfield 301, 3) := dk_180 1 45 (dk_at dksX0_isRowOf_0 20 rfl rfl)
theorem dX0_isRowOf_23 : decode cX0_isRowOf 23 = .ok (.if_icmp .ge 34, 3) := dk_162 0 34 (dk_at dksX0_isRowOf_1 0 rfl rfl)
theorem dX0_isRowOf_26 : decode cX0_isRowOf 26 = .ok (.aload_n 1, 1) := dk_43 (dk_at dksX0_isRowOf_1 3 rfl rfl)
theorem dX0_isRowOf_27 : decode cX0_isRowOf 27 = .ok (.getfield 221, 3) := dk_180 0 221 (dk_at dksX0_isRowOf_1 4 rfl rfl)
theorem dX0_isRowOf_30 : decode cX0_isRowOf 30 = .ok (.iload_n 2, 1) := dk_28 (dk_at dksX0_isRowOf_1 7 rfl rfl)
theorem dX0_isRowOf_31 : decode cX0_isRowOf 31 = .ok (.invokevirtual 152, 3) := dk_182 0 152 (dk_at dksX0_isRowOf_1 8 rfl rfl)
theorem dX0_isRowOf_34 : decode cX0_isRowOf 34 = .ok (.checkcast 232, 3) := dk_192 0 232 (dk_at dksX0_isRowOf_1 11 rfl rfl)
theorem dX0_isRowOf_37 : decode cX0_isRowOf 37 = .ok (.getfield 235, 3) := dk_180 0 235 (dk_at dksX0_isRowOf_1 14 rfl rfl)
theorem dX0_isRowOf_40 : decode cX0_isRowOf 40 = .ok (.aload_n 0, 1) := dk_42 (dk_at dksX0_isRowOf_1 17 rfl rfl)
theorem dX0_isRowOf_41 : decode cX0_isRowOf 41 = .ok (.getfield 77, 3) := dk_180 0 77 (dk_at dksX0_isRowOf_1 18 rfl rfl)
theorem dX0_isRowOf_44 : decode cX0_isRowOf 44 = .ok (.iload_n 2, 1) := dk_28 (dk_at dksX0_isRowOf_1 21 rfl rfl)
theorem dX0_isRowOf_45 : decode cX0_isRowOf 45 = .ok (.baload, 1) := dk_51 (dk_at dksX0_isRowOf_1 22 rfl rfl)
theorem dX0_isRowOf_46 : decode cX0_isRowOf 46 = .ok (.if_icmp .eq 5, 3) := dk_159 0 5 (dk_at dksX0_isRowOf_2 0 rfl rfl)
theorem dX0_isRowOf_49 : decode cX0_isRowOf 49 = .ok (.iconst 0, 1) := dk_3 (dk_at dksX0_isRowOf_2 3 rfl rfl)
theorem dX0_isRowOf_50 : decode cX0_isRowOf 50 = .ok (.ireturn, 1) := dk_172 (dk_at dksX0_isRowOf_2 4 rfl rfl)
theorem dX0_isRowOf_51 : decode cX0_isRowOf 51 = .ok (.iinc 2 1, 3) := dk_132 2 1 (dk_at dksX0_isRowOf_2 5 rfl rfl)
theorem dX0_isRowOf_54 : decode cX0_isRowOf 54 = .ok (.goto (-36), 3) := dk_167 255 220 (dk_at dksX0_isRowOf_2 8 rfl rfl)
theorem dX0_isRowOf_57 : decode cX0_isRowOf 57 = .ok (.iconst 1, 1) := dk_4 (dk_at dksX0_isRowOf_2 11 rfl rfl)
theorem dX0_isRowOf_58 : decode cX0_isRowOf 58 = .ok (.ireturn, 1) := dk_172 (dk_at dksX0_isRowOf_2 12 rfl rfl)
abbrev cX0_rowIt : ByteArray := prog_1_method_55_code
def yX0_rowIt : MethodName := ⟨RX0, "rowIt", "(I)I"⟩
def dkwX0_rowIt_2 : List UInt8 := [181, 1, 45, 42, 180, 1, 45, 172]
abbrev dktX0_rowIt_2 : List UInt8 := dkwX0_rowIt_2 ++ []
def dkwX0_rowIt_1 : List UInt8 := [16, 250, 184, 0, 9, 42, 180, 0, 77, 42, 180, 1, 45, 27, 145, 84, 42, 89, 180, 1, 45, 4, 96]
abbrev dktX0_rowIt_1 : List UInt8 := dkwX0_rowIt_1 ++ dktX0_rowIt_2
def dkwX0_rowIt_0 : List UInt8 := [27, 133, 9, 20, 0, 182, 184, 0, 184, 42, 180, 1, 45, 16, 32, 162, 0, 7, 4, 167, 0, 4, 3]
abbrev dktX0_rowIt_0 : List UInt8 := dkwX0_rowIt_0 ++ dktX0_rowIt_1
theorem dksX0_rowIt_0 : cX0_rowIt.data.toList.drop 0 = dktX0_rowIt_0 := by decide +kernel
theorem dksX0_rowIt_1 : cX0_rowIt.data.toList.drop 23 = dktX0_rowIt_1 := dk_seg dksX0_rowIt_0 23 rfl rfl
theorem dksX0_rowIt_2 : cX0_rowIt.data.toList.drop 46 = dktX0_rowIt_2 := dk_seg dksX0_rowIt_1 23 rfl rfl
theorem dX0_rowIt_0 : decode cX0_rowIt 0 = .ok (.iload_n 1, 1) := dk_27 (dk_at dksX0_rowIt_0 0 rfl rfl)
theorem dX0_rowIt_1 : decode cX0_rowIt 1 = .ok (.i2l, 1) := dk_133 (dk_at dksX0_rowIt_0 1 rfl rfl)
theorem dX0_rowIt_2 : decode cX0_rowIt 2 = .ok (.lconst 0, 1) := dk_9 (dk_at dksX0_rowIt_0 2 rfl rfl)
theorem dX0_rowIt_3 : decode cX0_rowIt 3 = .ok (.ldc2_w 182, 3) := dk_20 0 182 (dk_at dksX0_rowIt_0 3 rfl rfl)
theorem dX0_rowIt_6 : decode cX0_rowIt 6 = .ok (.invokestatic 184, 3) := dk_184 0 184 (dk_at dksX0_rowIt_0 6 rfl rfl)
theorem dX0_rowIt_9 : decode cX0_rowIt 9 = .ok (.aload_n 0, 1) := dk_42 (dk_at dksX0_rowIt_0 9 rfl rfl)
theorem dX0_rowIt_10 : decode cX0_rowIt 10 = .ok (.getfield 301, 3) := dk_180 1 45 (dk_at dksX0_rowIt_0 10 rfl rfl)
theorem dX0_rowIt_13 : decode cX0_rowIt 13 = .ok (.bipush 32, 2) := dk_16 32 (dk_at dksX0_rowIt_0 13 rfl rfl)
theorem dX0_rowIt_15 : decode cX0_rowIt 15 = .ok (.if_icmp .ge 7, 3) := dk_162 0 7 (dk_at dksX0_rowIt_0 15 rfl rfl)
theorem dX0_rowIt_18 : decode cX0_rowIt 18 = .ok (.iconst 1, 1) := dk_4 (dk_at dksX0_rowIt_0 18 rfl rfl)
theorem dX0_rowIt_19 : decode cX0_rowIt 19 = .ok (.goto 4, 3) := dk_167 0 4 (dk_at dksX0_rowIt_0 19 rfl rfl)
theorem dX0_rowIt_22 : decode cX0_rowIt 22 = .ok (.iconst 0, 1) := dk_3 (dk_at dksX0_rowIt_0 22 rfl rfl)
theorem dX0_rowIt_23 : decode cX0_rowIt 23 = .ok (.bipush (-6), 2) := dk_16 250 (dk_at dksX0_rowIt_1 0 rfl rfl)
theorem dX0_rowIt_25 : decode cX0_rowIt 25 = .ok (.invokestatic 9, 3) := dk_184 0 9 (dk_at dksX0_rowIt_1 2 rfl rfl)
theorem dX0_rowIt_28 : decode cX0_rowIt 28 = .ok (.aload_n 0, 1) := dk_42 (dk_at dksX0_rowIt_1 5 rfl rfl)
theorem dX0_rowIt_29 : decode cX0_rowIt 29 = .ok (.getfield 77, 3) := dk_180 0 77 (dk_at dksX0_rowIt_1 6 rfl rfl)
theorem dX0_rowIt_32 : decode cX0_rowIt 32 = .ok (.aload_n 0, 1) := dk_42 (dk_at dksX0_rowIt_1 9 rfl rfl)
theorem dX0_rowIt_33 : decode cX0_rowIt 33 = .ok (.getfield 301, 3) := dk_180 1 45 (dk_at dksX0_rowIt_1 10 rfl rfl)
theorem dX0_rowIt_36 : decode cX0_rowIt 36 = .ok (.iload_n 1, 1) := dk_27 (dk_at dksX0_rowIt_1 13 rfl rfl)
theorem dX0_rowIt_37 : decode cX0_rowIt 37 = .ok (.i2b, 1) := dk_145 (dk_at dksX0_rowIt_1 14 rfl rfl)
theorem dX0_rowIt_38 : decode cX0_rowIt 38 = .ok (.bastore, 1) := dk_84 (dk_at dksX0_rowIt_1 15 rfl rfl)
theorem dX0_rowIt_39 : decode cX0_rowIt 39 = .ok (.aload_n 0, 1) := dk_42 (dk_at dksX0_rowIt_1 16 rfl rfl)
theorem dX0_rowIt_40 : decode cX0_rowIt 40 = .ok (.dup, 1) := dk_89 (dk_at dksX0_rowIt_1 17 rfl rfl)
theorem dX0_rowIt_41 : decode cX0_rowIt 41 = .ok (.getfield 301, 3) := dk_180 1 45 (dk_at dksX0_rowIt_1 18 rfl rfl)
theorem dX0_rowIt_44 : decode cX0_rowIt 44 = .ok (.iconst 1, 1) := dk_4 (dk_at dksX0_rowIt_1 21 rfl rfl)
theorem dX0_rowIt_45 : decode cX0_rowIt 45 = .ok (.iadd, 1) := dk_96 (dk_at dksX0_rowIt_1 22 rfl rfl)
theorem dX0_rowIt_46 : decode cX0_rowIt 46 = .ok (.putfield 301, 3) := dk_181 1 45 (dk_at dksX0_rowIt_2 0 rfl rfl)
theorem dX0_rowIt_49 : decode cX0_rowIt 49 = .ok (.aload_n 0, 1) := dk_42 (dk_at dksX0_rowIt_2 3 rfl rfl)
theorem dX0_rowIt_50 : decode cX0_rowIt 50 = .ok (.getfield 301, 3) := dk_180 1 45 (dk_at dksX0_rowIt_2 4 rfl rfl)
theorem dX0_rowIt_53 : decode cX0_rowIt 53 = .ok (.ireturn, 1) := dk_172 (dk_at dksX0_rowIt_2 7 rfl rfl)
abbrev cX0_judgeRow : ByteArray := prog_1_method_42_code
def yX0_judgeRow : MethodName := ⟨RX0, "judgeRow", "()I"⟩
def dkwX0_judgeRow_4 : List UInt8 := [181, 1, 45, 25, 4, 191]
abbrev dktX0_judgeRow_4 : List UInt8 := dkwX0_judgeRow_4 ++ []
def dkwX0_judgeRow_3 : List UInt8 := [162, 0, 10, 42, 180, 1, 45, 167, 0, 5, 16, 247, 61, 42, 3, 181, 1, 45, 28, 172, 58, 4, 42, 3]
abbrev dktX0_judgeRow_3 : List UInt8 := dkwX0_judgeRow_3 ++ dktX0_judgeRow_4
def dkwX0_judgeRow_2 : List UInt8 := [62, 42, 3, 181, 1, 45, 29, 172, 132, 2, 1, 167, 255, 208, 42, 180, 1, 45, 43, 180, 0, 149]
abbrev dktX0_judgeRow_2 : List UInt8 := dkwX0_judgeRow_2 ++ dktX0_judgeRow_3
def dkwX0_judgeRow_1 : List UInt8 := [162, 0, 23, 43, 28, 182, 0, 152, 192, 0, 232, 180, 0, 235, 42, 180, 0, 77, 28, 51, 159, 0, 12, 28]
abbrev dktX0_judgeRow_1 : List UInt8 := dkwX0_judgeRow_1 ++ dktX0_judgeRow_2
def dkwX0_judgeRow_0 : List UInt8 := [42, 182, 0, 229, 180, 0, 221, 76, 3, 61, 28, 42, 180, 1, 45, 162, 0, 46, 28, 43, 180, 0, 149]
abbrev dktX0_judgeRow_0 : List UInt8 := dkwX0_judgeRow_0 ++ dktX0_judgeRow_1
theorem dksX0_judgeRow_0 : cX0_judgeRow.data.toList.drop 0 = dktX0_judgeRow_0 := by decide +kernel
theorem dksX0_judgeRow_1 : cX0_judgeRow.data.toList.drop 23 = dktX0_judgeRow_1 := dk_seg dksX0_judgeRow_0 23 rfl rfl
theorem dksX0_judgeRow_2 : cX0_judgeRow.data.toList.drop 47 = dktX0_judgeRow_2 := dk_seg dksX0_judgeRow_1 24 rfl rfl
theorem dksX0_judgeRow_3 : cX0_judgeRow.data.toList.drop 69 = dktX0_judgeRow_3 := dk_seg dksX0_judgeRow_2 22 rfl rfl
theorem dksX0_judgeRow_4 : cX0_judgeRow.data.toList.drop 93 = dktX0_judgeRow_4 := dk_seg dksX0_judgeRow_3 24 rfl rfl
theorem dX0_judgeRow_0 : decode cX0_judgeRow 0 = .ok (.aload_n 0, 1) := dk_42 (dk_at dksX0_judgeRow_0 0 rfl rfl)
theorem dX0_judgeRow_1 : decode cX0_judgeRow 1 = .ok (.invokevirtual 229, 3) := dk_182 0 229 (dk_at dksX0_judgeRow_0 1 rfl rfl)
theorem dX0_judgeRow_4 : decode cX0_judgeRow 4 = .ok (.getfield 221, 3) := dk_180 0 221 (dk_at dksX0_judgeRow_0 4 rfl rfl)
theorem dX0_judgeRow_7 : decode cX0_judgeRow 7 = .ok (.astore_n 1, 1) := dk_76 (dk_at dksX0_judgeRow_0 7 rfl rfl)
theorem dX0_judgeRow_8 : decode cX0_judgeRow 8 = .ok (.iconst 0, 1) := dk_3 (dk_at dksX0_judgeRow_0 8 rfl rfl)
theorem dX0_judgeRow_9 : decode cX0_judgeRow 9 = .ok (.istore_n 2, 1) := dk_61 (dk_at dksX0_judgeRow_0 9 rfl rfl)
theorem dX0_judgeRow_10 : decode cX0_judgeRow 10 = .ok (.iload_n 2, 1) := dk_28 (dk_at dksX0_judgeRow_0 10 rfl rfl)
theorem dX0_judgeRow_11 : decode cX0_judgeRow 11 = .ok (.aload_n 0, 1) := dk_42 (dk_at dksX0_judgeRow_0 11 rfl rfl)
theorem dX0_judgeRow_12 : decode cX0_judgeRow 12 = .ok (.getfield 301, 3) := dk_180 1 45 (dk_at dksX0_judgeRow_0 12 rfl rfl)
theorem dX0_judgeRow_15 : decode cX0_judgeRow 15 = .ok (.if_icmp .ge 46, 3) := dk_162 0 46 (dk_at dksX0_judgeRow_0 15 rfl rfl)
theorem dX0_judgeRow_18 : decode cX0_judgeRow 18 = .ok (.iload_n 2, 1) := dk_28 (dk_at dksX0_judgeRow_0 18 rfl rfl)
theorem dX0_judgeRow_19 : decode cX0_judgeRow 19 = .ok (.aload_n 1, 1) := dk_43 (dk_at dksX0_judgeRow_0 19 rfl rfl)
theorem dX0_judgeRow_20 : decode cX0_judgeRow 20 = .ok (.getfield 149, 3) := dk_180 0 149 (dk_at dksX0_judgeRow_0 20 rfl rfl)
theorem dX0_judgeRow_23 : decode cX0_judgeRow 23 = .ok (.if_icmp .ge 23, 3) := dk_162 0 23 (dk_at dksX0_judgeRow_1 0 rfl rfl)
theorem dX0_judgeRow_26 : decode cX0_judgeRow 26 = .ok (.aload_n 1, 1) := dk_43 (dk_at dksX0_judgeRow_1 3 rfl rfl)
theorem dX0_judgeRow_27 : decode cX0_judgeRow 27 = .ok (.iload_n 2, 1) := dk_28 (dk_at dksX0_judgeRow_1 4 rfl rfl)
theorem dX0_judgeRow_28 : decode cX0_judgeRow 28 = .ok (.invokevirtual 152, 3) := dk_182 0 152 (dk_at dksX0_judgeRow_1 5 rfl rfl)
theorem dX0_judgeRow_31 : decode cX0_judgeRow 31 = .ok (.checkcast 232, 3) := dk_192 0 232 (dk_at dksX0_judgeRow_1 8 rfl rfl)
theorem dX0_judgeRow_34 : decode cX0_judgeRow 34 = .ok (.getfield 235, 3) := dk_180 0 235 (dk_at dksX0_judgeRow_1 11 rfl rfl)
theorem dX0_judgeRow_37 : decode cX0_judgeRow 37 = .ok (.aload_n 0, 1) := dk_42 (dk_at dksX0_judgeRow_1 14 rfl rfl)
theorem dX0_judgeRow_38 : decode cX0_judgeRow 38 = .ok (.getfield 77, 3) := dk_180 0 77 (dk_at dksX0_judgeRow_1 15 rfl rfl)
theorem dX0_judgeRow_41 : decode cX0_judgeRow 41 = .ok (.iload_n 2, 1) := dk_28 (dk_at dksX0_judgeRow_1 18 rfl rfl)
theorem dX0_judgeRow_42 : decode cX0_judgeRow 42 = .ok (.baload, 1) := dk_51 (dk_at dksX0_judgeRow_1 19 rfl rfl)
theorem dX0_judgeRow_43 : decode cX0_judgeRow 43 = .ok (.if_icmp .eq 12, 3) := dk_159 0 12 (dk_at dksX0_judgeRow_1 20 rfl rfl)
theorem dX0_judgeRow_46 : decode cX0_judgeRow 46 = .ok (.iload_n 2, 1) := dk_28 (dk_at dksX0_judgeRow_1 23 rfl rfl)
theorem dX0_judgeRow_47 : decode cX0_judgeRow 47 = .ok (.istore_n 3, 1) := dk_62 (dk_at dksX0_judgeRow_2 0 rfl rfl)
theorem dX0_judgeRow_48 : decode cX0_judgeRow 48 = .ok (.aload_n 0, 1) := dk_42 (dk_at dksX0_judgeRow_2 1 rfl rfl)
theorem dX0_judgeRow_49 : decode cX0_judgeRow 49 = .ok (.iconst 0, 1) := dk_3 (dk_at dksX0_judgeRow_2 2 rfl rfl)
theorem dX0_judgeRow_50 : decode cX0_judgeRow 50 = .ok (.putfield 301, 3) := dk_181 1 45 (dk_at dksX0_judgeRow_2 3 rfl rfl)
theorem dX0_judgeRow_53 : decode cX0_judgeRow 53 = .ok (.iload_n 3, 1) := dk_29 (dk_at dksX0_judgeRow_2 6 rfl rfl)
theorem dX0_judgeRow_54 : decode cX0_judgeRow 54 = .ok (.ireturn, 1) := dk_172 (dk_at dksX0_judgeRow_2 7 rfl rfl)
theorem dX0_judgeRow_55 : decode cX0_judgeRow 55 = .ok (.iinc 2 1, 3) := dk_132 2 1 (dk_at dksX0_judgeRow_2 8 rfl rfl)
theorem dX0_judgeRow_58 : decode cX0_judgeRow 58 = .ok (.goto (-48), 3) := dk_167 255 208 (dk_at dksX0_judgeRow_2 11 rfl rfl)
theorem dX0_judgeRow_61 : decode cX0_judgeRow 61 = .ok (.aload_n 0, 1) := dk_42 (dk_at dksX0_judgeRow_2 14 rfl rfl)
theorem dX0_judgeRow_62 : decode cX0_judgeRow 62 = .ok (.getfield 301, 3) := dk_180 1 45 (dk_at dksX0_judgeRow_2 15 rfl rfl)
theorem dX0_judgeRow_65 : decode cX0_judgeRow 65 = .ok (.aload_n 1, 1) := dk_43 (dk_at dksX0_judgeRow_2 18 rfl rfl)
theorem dX0_judgeRow_66 : decode cX0_judgeRow 66 = .ok (.getfield 149, 3) := dk_180 0 149 (dk_at dksX0_judgeRow_2 19 rfl rfl)
theorem dX0_judgeRow_69 : decode cX0_judgeRow 69 = .ok (.if_icmp .ge 10, 3) := dk_162 0 10 (dk_at dksX0_judgeRow_3 0 rfl rfl)
theorem dX0_judgeRow_72 : decode cX0_judgeRow 72 = .ok (.aload_n 0, 1) := dk_42 (dk_at dksX0_judgeRow_3 3 rfl rfl)
theorem dX0_judgeRow_73 : decode cX0_judgeRow 73 = .ok (.getfield 301, 3) := dk_180 1 45 (dk_at dksX0_judgeRow_3 4 rfl rfl)
theorem dX0_judgeRow_76 : decode cX0_judgeRow 76 = .ok (.goto 5, 3) := dk_167 0 5 (dk_at dksX0_judgeRow_3 7 rfl rfl)
theorem dX0_judgeRow_79 : decode cX0_judgeRow 79 = .ok (.bipush (-9), 2) := dk_16 247 (dk_at dksX0_judgeRow_3 10 rfl rfl)
theorem dX0_judgeRow_81 : decode cX0_judgeRow 81 = .ok (.istore_n 2, 1) := dk_61 (dk_at dksX0_judgeRow_3 12 rfl rfl)
theorem dX0_judgeRow_82 : decode cX0_judgeRow 82 = .ok (.aload_n 0, 1) := dk_42 (dk_at dksX0_judgeRow_3 13 rfl rfl)
theorem dX0_judgeRow_83 : decode cX0_judgeRow 83 = .ok (.iconst 0, 1) := dk_3 (dk_at dksX0_judgeRow_3 14 rfl rfl)
theorem dX0_judgeRow_84 : decode cX0_judgeRow 84 = .ok (.putfield 301, 3) := dk_181 1 45 (dk_at dksX0_judgeRow_3 15 rfl rfl)
theorem dX0_judgeRow_87 : decode cX0_judgeRow 87 = .ok (.iload_n 2, 1) := dk_28 (dk_at dksX0_judgeRow_3 18 rfl rfl)
theorem dX0_judgeRow_88 : decode cX0_judgeRow 88 = .ok (.ireturn, 1) := dk_172 (dk_at dksX0_judgeRow_3 19 rfl rfl)
theorem dX0_judgeRow_89 : decode cX0_judgeRow 89 = .ok (.astore 4, 2) := dk_58 4 (dk_at dksX0_judgeRow_3 20 rfl rfl)
theorem dX0_judgeRow_91 : decode cX0_judgeRow 91 = .ok (.aload_n 0, 1) := dk_42 (dk_at dksX0_judgeRow_3 22 rfl rfl)
theorem dX0_judgeRow_92 : decode cX0_judgeRow 92 = .ok (.iconst 0, 1) := dk_3 (dk_at dksX0_judgeRow_3 23 rfl rfl)
theorem dX0_judgeRow_93 : decode cX0_judgeRow 93 = .ok (.putfield 301, 3) := dk_181 1 45 (dk_at dksX0_judgeRow_4 0 rfl rfl)
theorem dX0_judgeRow_96 : decode cX0_judgeRow 96 = .ok (.aload 4, 2) := dk_25 4 (dk_at dksX0_judgeRow_4 3 rfl rfl)
theorem dX0_judgeRow_98 : decode cX0_judgeRow 98 = .ok (.athrow, 1) := dk_191 (dk_at dksX0_judgeRow_4 5 rfl rfl)
abbrev cX0_clearIt : ByteArray := prog_1_method_56_code
def yX0_clearIt : MethodName := ⟨RX0, "clearIt", "()I"⟩
def dkwX0_clearIt_0 : List UInt8 := [42, 180, 1, 45, 60, 42, 3, 181, 1, 45, 27, 172]
abbrev dktX0_clearIt_0 : List UInt8 := dkwX0_clearIt_0 ++ []
theorem dksX0_clearIt_0 : cX0_clearIt.data.toList.drop 0 = dktX0_clearIt_0 := by decide +kernel
theorem dX0_clearIt_0 : decode cX0_clearIt 0 = .ok (.aload_n 0, 1) := dk_42 (dk_at dksX0_clearIt_0 0 rfl rfl)
theorem dX0_clearIt_1 : decode cX0_clearIt 1 = .ok (.getfield 301, 3) := dk_180 1 45 (dk_at dksX0_clearIt_0 1 rfl rfl)
theorem dX0_clearIt_4 : decode cX0_clearIt 4 = .ok (.istore_n 1, 1) := dk_60 (dk_at dksX0_clearIt_0 4 rfl rfl)
theorem dX0_clearIt_5 : decode cX0_clearIt 5 = .ok (.aload_n 0, 1) := dk_42 (dk_at dksX0_clearIt_0 5 rfl rfl)
theorem dX0_clearIt_6 : decode cX0_clearIt 6 = .ok (.iconst 0, 1) := dk_3 (dk_at dksX0_clearIt_0 6 rfl rfl)
theorem dX0_clearIt_7 : decode cX0_clearIt 7 = .ok (.putfield 301, 3) := dk_181 1 45 (dk_at dksX0_clearIt_0 7 rfl rfl)
theorem dX0_clearIt_10 : decode cX0_clearIt 10 = .ok (.iload_n 1, 1) := dk_27 (dk_at dksX0_clearIt_0 10 rfl rfl)
theorem dX0_clearIt_11 : decode cX0_clearIt 11 = .ok (.ireturn, 1) := dk_172 (dk_at dksX0_clearIt_0 11 rfl rfl)
abbrev cX0_lotsTold : ByteArray := prog_1_method_46_code
def yX0_lotsTold : MethodName := ⟨RX0, "lotsTold", "(III)I"⟩
def dkwX0_lotsTold_6 : List UInt8 := [21, 4, 167, 0, 5, 21, 5, 172]
abbrev dktX0_lotsTold_6 : List UInt8 := dkwX0_lotsTold_6 ++ []
def dkwX0_lotsTold_5 : List UInt8 := [182, 1, 37, 153, 0, 7, 4, 167, 0, 4, 3, 96, 54, 5, 132, 6, 1, 167, 255, 149, 29, 154, 0, 8]
abbrev dktX0_lotsTold_5 : List UInt8 := dkwX0_lotsTold_5 ++ dktX0_lotsTold_6
def dkwX0_lotsTold_4 : List UInt8 := [132, 8, 255, 167, 255, 229, 21, 4, 25, 7, 180, 0, 221, 180, 0, 149, 96, 54, 4, 21, 5, 25, 7]
abbrev dktX0_lotsTold_4 : List UInt8 := dkwX0_lotsTold_4 ++ dktX0_lotsTold_5
def dkwX0_lotsTold_3 : List UInt8 := [155, 0, 28, 42, 42, 180, 0, 100, 21, 8, 46, 42, 180, 0, 103, 21, 8, 50, 182, 0, 218, 87]
abbrev dktX0_lotsTold_3 : List UInt8 := dkwX0_lotsTold_3 ++ dktX0_lotsTold_4
def dkwX0_lotsTold_2 : List UInt8 := [132, 7, 1, 167, 255, 241, 42, 180, 0, 73, 42, 180, 0, 66, 182, 0, 192, 58, 7, 6, 54, 8, 21, 8]
abbrev dktX0_lotsTold_2 : List UInt8 := dkwX0_lotsTold_2 ++ dktX0_lotsTold_3
def dkwX0_lotsTold_1 : List UInt8 := [3, 54, 6, 21, 6, 27, 162, 0, 107, 3, 54, 7, 21, 7, 7, 162, 0, 15, 42, 21, 7, 182, 1, 75]
abbrev dktX0_lotsTold_1 : List UInt8 := dkwX0_lotsTold_1 ++ dktX0_lotsTold_2
def dkwX0_lotsTold_0 : List UInt8 := [27, 133, 10, 20, 1, 73, 184, 0, 184, 29, 184, 0, 226, 42, 28, 181, 1, 52, 3, 54, 4, 3, 54, 5]
abbrev dktX0_lotsTold_0 : List UInt8 := dkwX0_lotsTold_0 ++ dktX0_lotsTold_1
theorem dksX0_lotsTold_0 : cX0_lotsTold.data.toList.drop 0 = dktX0_lotsTold_0 := by decide +kernel
theorem dksX0_lotsTold_1 : cX0_lotsTold.data.toList.drop 24 = dktX0_lotsTold_1 := dk_seg dksX0_lotsTold_0 24 rfl rfl
theorem dksX0_lotsTold_2 : cX0_lotsTold.data.toList.drop 48 = dktX0_lotsTold_2 := dk_seg dksX0_lotsTold_1 24 rfl rfl
theorem dksX0_lotsTold_3 : cX0_lotsTold.data.toList.drop 72 = dktX0_lotsTold_3 := dk_seg dksX0_lotsTold_2 24 rfl rfl
theorem dksX0_lotsTold_4 : cX0_lotsTold.data.toList.drop 94 = dktX0_lotsTold_4 := dk_seg dksX0_lotsTold_3 22 rfl rfl
theorem dksX0_lotsTold_5 : cX0_lotsTold.data.toList.drop 117 = dktX0_lotsTold_5 := dk_seg dksX0_lotsTold_4 23 rfl rfl
theorem dksX0_lotsTold_6 : cX0_lotsTold.data.toList.drop 141 = dktX0_lotsTold_6 := dk_seg dksX0_lotsTold_5 24 rfl rfl
theorem dX0_lotsTold_0 : decode cX0_lotsTold 0 = .ok (.iload_n 1, 1) := dk_27 (dk_at dksX0_lotsTold_0 0 rfl rfl)
theorem dX0_lotsTold_1 : decode cX0_lotsTold 1 = .ok (.i2l, 1) := dk_133 (dk_at dksX0_lotsTold_0 1 rfl rfl)
theorem dX0_lotsTold_2 : decode cX0_lotsTold 2 = .ok (.lconst 1, 1) := dk_10 (dk_at dksX0_lotsTold_0 2 rfl rfl)
theorem dX0_lotsTold_3 : decode cX0_lotsTold 3 = .ok (.ldc2_w 329, 3) := dk_20 1 73 (dk_at dksX0_lotsTold_0 3 rfl rfl)
theorem dX0_lotsTold_6 : decode cX0_lotsTold 6 = .ok (.invokestatic 184, 3) := dk_184 0 184 (dk_at dksX0_lotsTold_0 6 rfl rfl)
theorem dX0_lotsTold_9 : decode cX0_lotsTold 9 = .ok (.iload_n 3, 1) := dk_29 (dk_at dksX0_lotsTold_0 9 rfl rfl)
theorem dX0_lotsTold_10 : decode cX0_lotsTold 10 = .ok (.invokestatic 226, 3) := dk_184 0 226 (dk_at dksX0_lotsTold_0 10 rfl rfl)
theorem dX0_lotsTold_13 : decode cX0_lotsTold 13 = .ok (.aload_n 0, 1) := dk_42 (dk_at dksX0_lotsTold_0 13 rfl rfl)
theorem dX0_lotsTold_14 : decode cX0_lotsTold 14 = .ok (.iload_n 2, 1) := dk_28 (dk_at dksX0_lotsTold_0 14 rfl rfl)
theorem dX0_lotsTold_15 : decode cX0_lotsTold 15 = .ok (.putfield 308, 3) := dk_181 1 52 (dk_at dksX0_lotsTold_0 15 rfl rfl)
theorem dX0_lotsTold_18 : decode cX0_lotsTold 18 = .ok (.iconst 0, 1) := dk_3 (dk_at dksX0_lotsTold_0 18 rfl rfl)
theorem dX0_lotsTold_19 : decode cX0_lotsTold 19 = .ok (.istore 4, 2) := dk_54 4 (dk_at dksX0_lotsTold_0 19 rfl rfl)
theorem dX0_lotsTold_21 : decode cX0_lotsTold 21 = .ok (.iconst 0, 1) := dk_3 (dk_at dksX0_lotsTold_0 21 rfl rfl)
theorem dX0_lotsTold_22 : decode cX0_lotsTold 22 = .ok (.istore 5, 2) := dk_54 5 (dk_at dksX0_lotsTold_0 22 rfl rfl)
theorem dX0_lotsTold_24 : decode cX0_lotsTold 24 = .ok (.iconst 0, 1) := dk_3 (dk_at dksX0_lotsTold_1 0 rfl rfl)
theorem dX0_lotsTold_25 : decode cX0_lotsTold 25 = .ok (.istore 6, 2) := dk_54 6 (dk_at dksX0_lotsTold_1 1 rfl rfl)
theorem dX0_lotsTold_27 : decode cX0_lotsTold 27 = .ok (.iload 6, 2) := dk_21 6 (dk_at dksX0_lotsTold_1 3 rfl rfl)
theorem dX0_lotsTold_29 : decode cX0_lotsTold 29 = .ok (.iload_n 1, 1) := dk_27 (dk_at dksX0_lotsTold_1 5 rfl rfl)
theorem dX0_lotsTold_30 : decode cX0_lotsTold 30 = .ok (.if_icmp .ge 107, 3) := dk_162 0 107 (dk_at dksX0_lotsTold_1 6 rfl rfl)
theorem dX0_lotsTold_33 : decode cX0_lotsTold 33 = .ok (.iconst 0, 1) := dk_3 (dk_at dksX0_lotsTold_1 9 rfl rfl)
theorem dX0_lotsTold_34 : decode cX0_lotsTold 34 = .ok (.istore 7, 2) := dk_54 7 (dk_at dksX0_lotsTold_1 10 rfl rfl)
theorem dX0_lotsTold_36 : decode cX0_lotsTold 36 = .ok (.iload 7, 2) := dk_21 7 (dk_at dksX0_lotsTold_1 12 rfl rfl)
theorem dX0_lotsTold_38 : decode cX0_lotsTold 38 = .ok (.iconst 4, 1) := dk_7 (dk_at dksX0_lotsTold_1 14 rfl rfl)
theorem dX0_lotsTold_39 : decode cX0_lotsTold 39 = .ok (.if_icmp .ge 15, 3) := dk_162 0 15 (dk_at dksX0_lotsTold_1 15 rfl rfl)
theorem dX0_lotsTold_42 : decode cX0_lotsTold 42 = .ok (.aload_n 0, 1) := dk_42 (dk_at dksX0_lotsTold_1 18 rfl rfl)
theorem dX0_lotsTold_43 : decode cX0_lotsTold 43 = .ok (.iload 7, 2) := dk_21 7 (dk_at dksX0_lotsTold_1 19 rfl rfl)
theorem dX0_lotsTold_45 : decode cX0_lotsTold 45 = .ok (.invokevirtual 331, 3) := dk_182 1 75 (dk_at dksX0_lotsTold_1 21 rfl rfl)
theorem dX0_lotsTold_48 : decode cX0_lotsTold 48 = .ok (.iinc 7 1, 3) := dk_132 7 1 (dk_at dksX0_lotsTold_2 0 rfl rfl)
theorem dX0_lotsTold_51 : decode cX0_lotsTold 51 = .ok (.goto (-15), 3) := dk_167 255 241 (dk_at dksX0_lotsTold_2 3 rfl rfl)
theorem dX0_lotsTold_54 : decode cX0_lotsTold 54 = .ok (.aload_n 0, 1) := dk_42 (dk_at dksX0_lotsTold_2 6 rfl rfl)
theorem dX0_lotsTold_55 : decode cX0_lotsTold 55 = .ok (.getfield 73, 3) := dk_180 0 73 (dk_at dksX0_lotsTold_2 7 rfl rfl)
theorem dX0_lotsTold_58 : decode cX0_lotsTold 58 = .ok (.aload_n 0, 1) := dk_42 (dk_at dksX0_lotsTold_2 10 rfl rfl)
theorem dX0_lotsTold_59 : decode cX0_lotsTold 59 = .ok (.getfield 66, 3) := dk_180 0 66 (dk_at dksX0_lotsTold_2 11 rfl rfl)
theorem dX0_lotsTold_62 : decode cX0_lotsTold 62 = .ok (.invokevirtual 192, 3) := dk_182 0 192 (dk_at dksX0_lotsTold_2 14 rfl rfl)
theorem dX0_lotsTold_65 : decode cX0_lotsTold 65 = .ok (.astore 7, 2) := dk_58 7 (dk_at dksX0_lotsTold_2 17 rfl rfl)
theorem dX0_lotsTold_67 : decode cX0_lotsTold 67 = .ok (.iconst 3, 1) := dk_6 (dk_at dksX0_lotsTold_2 19 rfl rfl)
theorem dX0_lotsTold_68 : decode cX0_lotsTold 68 = .ok (.istore 8, 2) := dk_54 8 (dk_at dksX0_lotsTold_2 20 rfl rfl)
theorem dX0_lotsTold_70 : decode cX0_lotsTold 70 = .ok (.iload 8, 2) := dk_21 8 (dk_at dksX0_lotsTold_2 22 rfl rfl)
theorem dX0_lotsTold_72 : decode cX0_lotsTold 72 = .ok (.ifCond .lt 28, 3) := dk_155 0 28 (dk_at dksX0_lotsTold_3 0 rfl rfl)
theorem dX0_lotsTold_75 : decode cX0_lotsTold 75 = .ok (.aload_n 0, 1) := dk_42 (dk_at dksX0_lotsTold_3 3 rfl rfl)
theorem dX0_lotsTold_76 : decode cX0_lotsTold 76 = .ok (.aload_n 0, 1) := dk_42 (dk_at dksX0_lotsTold_3 4 rfl rfl)
theorem dX0_lotsTold_77 : decode cX0_lotsTold 77 = .ok (.getfield 100, 3) := dk_180 0 100 (dk_at dksX0_lotsTold_3 5 rfl rfl)
theorem dX0_lotsTold_80 : decode cX0_lotsTold 80 = .ok (.iload 8, 2) := dk_21 8 (dk_at dksX0_lotsTold_3 8 rfl rfl)
theorem dX0_lotsTold_82 : decode cX0_lotsTold 82 = .ok (.iaload, 1) := dk_46 (dk_at dksX0_lotsTold_3 10 rfl rfl)
theorem dX0_lotsTold_83 : decode cX0_lotsTold 83 = .ok (.aload_n 0, 1) := dk_42 (dk_at dksX0_lotsTold_3 11 rfl rfl)
theorem dX0_lotsTold_84 : decode cX0_lotsTold 84 = .ok (.getfield 103, 3) := dk_180 0 103 (dk_at dksX0_lotsTold_3 12 rfl rfl)
theorem dX0_lotsTold_87 : decode cX0_lotsTold 87 = .ok (.iload 8, 2) := dk_21 8 (dk_at dksX0_lotsTold_3 15 rfl rfl)
theorem dX0_lotsTold_89 : decode cX0_lotsTold 89 = .ok (.aaload, 1) := dk_50 (dk_at dksX0_lotsTold_3 17 rfl rfl)
theorem dX0_lotsTold_90 : decode cX0_lotsTold 90 = .ok (.invokevirtual 218, 3) := dk_182 0 218 (dk_at dksX0_lotsTold_3 18 rfl rfl)
theorem dX0_lotsTold_93 : decode cX0_lotsTold 93 = .ok (.pop, 1) := dk_87 (dk_at dksX0_lotsTold_3 21 rfl rfl)
theorem dX0_lotsTold_94 : decode cX0_lotsTold 94 = .ok (.iinc 8 (-1), 3) := dk_132 8 255 (dk_at dksX0_lotsTold_4 0 rfl rfl)
theorem dX0_lotsTold_97 : decode cX0_lotsTold 97 = .ok (.goto (-27), 3) := dk_167 255 229 (dk_at dksX0_lotsTold_4 3 rfl rfl)
theorem dX0_lotsTold_100 : decode cX0_lotsTold 100 = .ok (.iload 4, 2) := dk_21 4 (dk_at dksX0_lotsTold_4 6 rfl rfl)
theorem dX0_lotsTold_102 : decode cX0_lotsTold 102 = .ok (.aload 7, 2) := dk_25 7 (dk_at dksX0_lotsTold_4 8 rfl rfl)
theorem dX0_lotsTold_104 : decode cX0_lotsTold 104 = .ok (.getfield 221, 3) := dk_180 0 221 (dk_at dksX0_lotsTold_4 10 rfl rfl)
theorem dX0_lotsTold_107 : decode cX0_lotsTold 107 = .ok (.getfield 149, 3) := dk_180 0 149 (dk_at dksX0_lotsTold_4 13 rfl rfl)
theorem dX0_lotsTold_110 : decode cX0_lotsTold 110 = .ok (.iadd, 1) := dk_96 (dk_at dksX0_lotsTold_4 16 rfl rfl)
theorem dX0_lotsTold_111 : decode cX0_lotsTold 111 = .ok (.istore 4, 2) := dk_54 4 (dk_at dksX0_lotsTold_4 17 rfl rfl)
theorem dX0_lotsTold_113 : decode cX0_lotsTold 113 = .ok (.iload 5, 2) := dk_21 5 (dk_at dksX0_lotsTold_4 19 rfl rfl)
theorem dX0_lotsTold_115 : decode cX0_lotsTold 115 = .ok (.aload 7, 2) := dk_25 7 (dk_at dksX0_lotsTold_4 21 rfl rfl)
theorem dX0_lotsTold_117 : decode cX0_lotsTold 117 = .ok (.invokevirtual 293, 3) := dk_182 1 37 (dk_at dksX0_lotsTold_5 0 rfl rfl)
theorem dX0_lotsTold_120 : decode cX0_lotsTold 120 = .ok (.ifCond .eq 7, 3) := dk_153 0 7 (dk_at dksX0_lotsTold_5 3 rfl rfl)
theorem dX0_lotsTold_123 : decode cX0_lotsTold 123 = .ok (.iconst 1, 1) := dk_4 (dk_at dksX0_lotsTold_5 6 rfl rfl)
theorem dX0_lotsTold_124 : decode cX0_lotsTold 124 = .ok (.goto 4, 3) := dk_167 0 4 (dk_at dksX0_lotsTold_5 7 rfl rfl)
theorem dX0_lotsTold_127 : decode cX0_lotsTold 127 = .ok (.iconst 0, 1) := dk_3 (dk_at dksX0_lotsTold_5 10 rfl rfl)
theorem dX0_lotsTold_128 : decode cX0_lotsTold 128 = .ok (.iadd, 1) := dk_96 (dk_at dksX0_lotsTold_5 11 rfl rfl)
theorem dX0_lotsTold_129 : decode cX0_lotsTold 129 = .ok (.istore 5, 2) := dk_54 5 (dk_at dksX0_lotsTold_5 12 rfl rfl)
theorem dX0_lotsTold_131 : decode cX0_lotsTold 131 = .ok (.iinc 6 1, 3) := dk_132 6 1 (dk_at dksX0_lotsTold_5 14 rfl rfl)
theorem dX0_lotsTold_134 : decode cX0_lotsTold 134 = .ok (.goto (-107), 3) := dk_167 255 149 (dk_at dksX0_lotsTold_5 17 rfl rfl)
theorem dX0_lotsTold_137 : decode cX0_lotsTold 137 = .ok (.iload_n 3, 1) := dk_29 (dk_at dksX0_lotsTold_5 20 rfl rfl)
theorem dX0_lotsTold_138 : decode cX0_lotsTold 138 = .ok (.ifCond .ne 8, 3) := dk_154 0 8 (dk_at dksX0_lotsTold_5 21 rfl rfl)
theorem dX0_lotsTold_141 : decode cX0_lotsTold 141 = .ok (.iload 4, 2) := dk_21 4 (dk_at dksX0_lotsTold_6 0 rfl rfl)
theorem dX0_lotsTold_143 : decode cX0_lotsTold 143 = .ok (.goto 5, 3) := dk_167 0 5 (dk_at dksX0_lotsTold_6 2 rfl rfl)
theorem dX0_lotsTold_146 : decode cX0_lotsTold 146 = .ok (.iload 5, 2) := dk_21 5 (dk_at dksX0_lotsTold_6 5 rfl rfl)
theorem dX0_lotsTold_148 : decode cX0_lotsTold 148 = .ok (.ireturn, 1) := dk_172 (dk_at dksX0_lotsTold_6 7 rfl rfl)
abbrev cX0_hurt : ByteArray := prog_1_method_45_code
def yX0_hurt : MethodName := ⟨RX0, "hurt", "(I)V"⟩
def dkwX0_hurt_4 : List UInt8 := [180, 0, 107, 27, 50, 182, 0, 218, 83, 177]
abbrev dktX0_hurt_4 : List UInt8 := dkwX0_hurt_4 ++ []
def dkwX0_hurt_3 : List UInt8 := [180, 0, 103, 27, 42, 42, 180, 0, 100, 27, 46, 28, 153, 0, 10, 42, 180, 0, 96, 167, 0, 9, 42]
abbrev dktX0_hurt_3 : List UInt8 := dkwX0_hurt_3 ++ dktX0_hurt_4
def dkwX0_hurt_2 : List UInt8 := [180, 0, 107, 27, 50, 28, 153, 0, 7, 3, 167, 0, 9, 42, 16, 100, 182, 1, 70, 181, 0, 50, 42]
abbrev dktX0_hurt_2 : List UInt8 := dkwX0_hurt_2 ++ dktX0_hurt_3
def dkwX0_hurt_1 : List UInt8 := [180, 0, 66, 3, 182, 1, 65, 79, 42, 7, 182, 1, 70, 154, 0, 7, 4, 167, 0, 4, 3, 61, 42]
abbrev dktX0_hurt_1 : List UInt8 := dkwX0_hurt_1 ++ dktX0_hurt_2
def dkwX0_hurt_0 : List UInt8 := [42, 42, 42, 180, 0, 66, 182, 0, 54, 182, 1, 70, 181, 1, 58, 42, 180, 0, 100, 27, 42, 42]
abbrev dktX0_hurt_0 : List UInt8 := dkwX0_hurt_0 ++ dktX0_hurt_1
theorem dksX0_hurt_0 : cX0_hurt.data.toList.drop 0 = dktX0_hurt_0 := by decide +kernel
theorem dksX0_hurt_1 : cX0_hurt.data.toList.drop 22 = dktX0_hurt_1 := dk_seg dksX0_hurt_0 22 rfl rfl
theorem dksX0_hurt_2 : cX0_hurt.data.toList.drop 45 = dktX0_hurt_2 := dk_seg dksX0_hurt_1 23 rfl rfl
theorem dksX0_hurt_3 : cX0_hurt.data.toList.drop 68 = dktX0_hurt_3 := dk_seg dksX0_hurt_2 23 rfl rfl
theorem dksX0_hurt_4 : cX0_hurt.data.toList.drop 91 = dktX0_hurt_4 := dk_seg dksX0_hurt_3 23 rfl rfl
theorem dX0_hurt_0 : decode cX0_hurt 0 = .ok (.aload_n 0, 1) := dk_42 (dk_at dksX0_hurt_0 0 rfl rfl)
theorem dX0_hurt_1 : decode cX0_hurt 1 = .ok (.aload_n 0, 1) := dk_42 (dk_at dksX0_hurt_0 1 rfl rfl)
theorem dX0_hurt_2 : decode cX0_hurt 2 = .ok (.aload_n 0, 1) := dk_42 (dk_at dksX0_hurt_0 2 rfl rfl)
theorem dX0_hurt_3 : decode cX0_hurt 3 = .ok (.getfield 66, 3) := dk_180 0 66 (dk_at dksX0_hurt_0 3 rfl rfl)
theorem dX0_hurt_6 : decode cX0_hurt 6 = .ok (.invokevirtual 54, 3) := dk_182 0 54 (dk_at dksX0_hurt_0 6 rfl rfl)
theorem dX0_hurt_9 : decode cX0_hurt 9 = .ok (.invokevirtual 326, 3) := dk_182 1 70 (dk_at dksX0_hurt_0 9 rfl rfl)
theorem dX0_hurt_12 : decode cX0_hurt 12 = .ok (.putfield 314, 3) := dk_181 1 58 (dk_at dksX0_hurt_0 12 rfl rfl)
theorem dX0_hurt_15 : decode cX0_hurt 15 = .ok (.aload_n 0, 1) := dk_42 (dk_at dksX0_hurt_0 15 rfl rfl)
theorem dX0_hurt_16 : decode cX0_hurt 16 = .ok (.getfield 100, 3) := dk_180 0 100 (dk_at dksX0_hurt_0 16 rfl rfl)
theorem dX0_hurt_19 : decode cX0_hurt 19 = .ok (.iload_n 1, 1) := dk_27 (dk_at dksX0_hurt_0 19 rfl rfl)
theorem dX0_hurt_20 : decode cX0_hurt 20 = .ok (.aload_n 0, 1) := dk_42 (dk_at dksX0_hurt_0 20 rfl rfl)
theorem dX0_hurt_21 : decode cX0_hurt 21 = .ok (.aload_n 0, 1) := dk_42 (dk_at dksX0_hurt_0 21 rfl rfl)
theorem dX0_hurt_22 : decode cX0_hurt 22 = .ok (.getfield 66, 3) := dk_180 0 66 (dk_at dksX0_hurt_1 0 rfl rfl)
theorem dX0_hurt_25 : decode cX0_hurt 25 = .ok (.iconst 0, 1) := dk_3 (dk_at dksX0_hurt_1 3 rfl rfl)
theorem dX0_hurt_26 : decode cX0_hurt 26 = .ok (.invokevirtual 321, 3) := dk_182 1 65 (dk_at dksX0_hurt_1 4 rfl rfl)
theorem dX0_hurt_29 : decode cX0_hurt 29 = .ok (.iastore, 1) := dk_79 (dk_at dksX0_hurt_1 7 rfl rfl)
theorem dX0_hurt_30 : decode cX0_hurt 30 = .ok (.aload_n 0, 1) := dk_42 (dk_at dksX0_hurt_1 8 rfl rfl)
theorem dX0_hurt_31 : decode cX0_hurt 31 = .ok (.iconst 4, 1) := dk_7 (dk_at dksX0_hurt_1 9 rfl rfl)
theorem dX0_hurt_32 : decode cX0_hurt 32 = .ok (.invokevirtual 326, 3) := dk_182 1 70 (dk_at dksX0_hurt_1 10 rfl rfl)
theorem dX0_hurt_35 : decode cX0_hurt 35 = .ok (.ifCond .ne 7, 3) := dk_154 0 7 (dk_at dksX0_hurt_1 13 rfl rfl)
theorem dX0_hurt_38 : decode cX0_hurt 38 = .ok (.iconst 1, 1) := dk_4 (dk_at dksX0_hurt_1 16 rfl rfl)
theorem dX0_hurt_39 : decode cX0_hurt 39 = .ok (.goto 4, 3) := dk_167 0 4 (dk_at dksX0_hurt_1 17 rfl rfl)
theorem dX0_hurt_42 : decode cX0_hurt 42 = .ok (.iconst 0, 1) := dk_3 (dk_at dksX0_hurt_1 20 rfl rfl)
theorem dX0_hurt_43 : decode cX0_hurt 43 = .ok (.istore_n 2, 1) := dk_61 (dk_at dksX0_hurt_1 21 rfl rfl)
theorem dX0_hurt_44 : decode cX0_hurt 44 = .ok (.aload_n 0, 1) := dk_42 (dk_at dksX0_hurt_1 22 rfl rfl)
theorem dX0_hurt_45 : decode cX0_hurt 45 = .ok (.getfield 107, 3) := dk_180 0 107 (dk_at dksX0_hurt_2 0 rfl rfl)
theorem dX0_hurt_48 : decode cX0_hurt 48 = .ok (.iload_n 1, 1) := dk_27 (dk_at dksX0_hurt_2 3 rfl rfl)
theorem dX0_hurt_49 : decode cX0_hurt 49 = .ok (.aaload, 1) := dk_50 (dk_at dksX0_hurt_2 4 rfl rfl)
theorem dX0_hurt_50 : decode cX0_hurt 50 = .ok (.iload_n 2, 1) := dk_28 (dk_at dksX0_hurt_2 5 rfl rfl)
theorem dX0_hurt_51 : decode cX0_hurt 51 = .ok (.ifCond .eq 7, 3) := dk_153 0 7 (dk_at dksX0_hurt_2 6 rfl rfl)
theorem dX0_hurt_54 : decode cX0_hurt 54 = .ok (.iconst 0, 1) := dk_3 (dk_at dksX0_hurt_2 9 rfl rfl)
theorem dX0_hurt_55 : decode cX0_hurt 55 = .ok (.goto 9, 3) := dk_167 0 9 (dk_at dksX0_hurt_2 10 rfl rfl)
theorem dX0_hurt_58 : decode cX0_hurt 58 = .ok (.aload_n 0, 1) := dk_42 (dk_at dksX0_hurt_2 13 rfl rfl)
theorem dX0_hurt_59 : decode cX0_hurt 59 = .ok (.bipush 100, 2) := dk_16 100 (dk_at dksX0_hurt_2 14 rfl rfl)
theorem dX0_hurt_61 : decode cX0_hurt 61 = .ok (.invokevirtual 326, 3) := dk_182 1 70 (dk_at dksX0_hurt_2 16 rfl rfl)
theorem dX0_hurt_64 : decode cX0_hurt 64 = .ok (.putfield 50, 3) := dk_181 0 50 (dk_at dksX0_hurt_2 19 rfl rfl)
theorem dX0_hurt_67 : decode cX0_hurt 67 = .ok (.aload_n 0, 1) := dk_42 (dk_at dksX0_hurt_2 22 rfl rfl)
theorem dX0_hurt_68 : decode cX0_hurt 68 = .ok (.getfield 103, 3) := dk_180 0 103 (dk_at dksX0_hurt_3 0 rfl rfl)
theorem dX0_hurt_71 : decode cX0_hurt 71 = .ok (.iload_n 1, 1) := dk_27 (dk_at dksX0_hurt_3 3 rfl rfl)
theorem dX0_hurt_72 : decode cX0_hurt 72 = .ok (.aload_n 0, 1) := dk_42 (dk_at dksX0_hurt_3 4 rfl rfl)
theorem dX0_hurt_73 : decode cX0_hurt 73 = .ok (.aload_n 0, 1) := dk_42 (dk_at dksX0_hurt_3 5 rfl rfl)
theorem dX0_hurt_74 : decode cX0_hurt 74 = .ok (.getfield 100, 3) := dk_180 0 100 (dk_at dksX0_hurt_3 6 rfl rfl)
theorem dX0_hurt_77 : decode cX0_hurt 77 = .ok (.iload_n 1, 1) := dk_27 (dk_at dksX0_hurt_3 9 rfl rfl)
theorem dX0_hurt_78 : decode cX0_hurt 78 = .ok (.iaload, 1) := dk_46 (dk_at dksX0_hurt_3 10 rfl rfl)
theorem dX0_hurt_79 : decode cX0_hurt 79 = .ok (.iload_n 2, 1) := dk_28 (dk_at dksX0_hurt_3 11 rfl rfl)
theorem dX0_hurt_80 : decode cX0_hurt 80 = .ok (.ifCond .eq 10, 3) := dk_153 0 10 (dk_at dksX0_hurt_3 12 rfl rfl)
theorem dX0_hurt_83 : decode cX0_hurt 83 = .ok (.aload_n 0, 1) := dk_42 (dk_at dksX0_hurt_3 15 rfl rfl)
theorem dX0_hurt_84 : decode cX0_hurt 84 = .ok (.getfield 96, 3) := dk_180 0 96 (dk_at dksX0_hurt_3 16 rfl rfl)
theorem dX0_hurt_87 : decode cX0_hurt 87 = .ok (.goto 9, 3) := dk_167 0 9 (dk_at dksX0_hurt_3 19 rfl rfl)
theorem dX0_hurt_90 : decode cX0_hurt 90 = .ok (.aload_n 0, 1) := dk_42 (dk_at dksX0_hurt_3 22 rfl rfl)
theorem dX0_hurt_91 : decode cX0_hurt 91 = .ok (.getfield 107, 3) := dk_180 0 107 (dk_at dksX0_hurt_4 0 rfl rfl)
theorem dX0_hurt_94 : decode cX0_hurt 94 = .ok (.iload_n 1, 1) := dk_27 (dk_at dksX0_hurt_4 3 rfl rfl)
theorem dX0_hurt_95 : decode cX0_hurt 95 = .ok (.aaload, 1) := dk_50 (dk_at dksX0_hurt_4 4 rfl rfl)
theorem dX0_hurt_96 : decode cX0_hurt 96 = .ok (.invokevirtual 218, 3) := dk_182 0 218 (dk_at dksX0_hurt_4 5 rfl rfl)
theorem dX0_hurt_99 : decode cX0_hurt 99 = .ok (.aastore, 1) := dk_83 (dk_at dksX0_hurt_4 8 rfl rfl)
theorem dX0_hurt_100 : decode cX0_hurt 100 = .ok (.return_, 1) := dk_177 (dk_at dksX0_hurt_4 9 rfl rfl)
abbrev cX0_drawn : ByteArray := prog_1_method_43_code
def yX0_drawn : MethodName := ⟨RX0, "drawn", "(I)I"⟩
def dkwX0_drawn_1 : List UInt8 := [17, 1, 0, 108, 27, 112, 172]
abbrev dktX0_drawn_1 : List UInt8 := dkwX0_drawn_1 ++ []
def dkwX0_drawn_0 : List UInt8 := [42, 42, 180, 1, 52, 19, 1, 55, 104, 19, 1, 56, 96, 181, 1, 52, 42, 180, 1, 52, 19, 1, 57, 126]
abbrev dktX0_drawn_0 : List UInt8 := dkwX0_drawn_0 ++ dktX0_drawn_1
theorem dksX0_drawn_0 : cX0_drawn.data.toList.drop 0 = dktX0_drawn_0 := by decide +kernel
theorem dksX0_drawn_1 : cX0_drawn.data.toList.drop 24 = dktX0_drawn_1 := dk_seg dksX0_drawn_0 24 rfl rfl
theorem dX0_drawn_0 : decode cX0_drawn 0 = .ok (.aload_n 0, 1) := dk_42 (dk_at dksX0_drawn_0 0 rfl rfl)
theorem dX0_drawn_1 : decode cX0_drawn 1 = .ok (.aload_n 0, 1) := dk_42 (dk_at dksX0_drawn_0 1 rfl rfl)
theorem dX0_drawn_2 : decode cX0_drawn 2 = .ok (.getfield 308, 3) := dk_180 1 52 (dk_at dksX0_drawn_0 2 rfl rfl)
theorem dX0_drawn_5 : decode cX0_drawn 5 = .ok (.ldc_w 311, 3) := dk_19 1 55 (dk_at dksX0_drawn_0 5 rfl rfl)
theorem dX0_drawn_8 : decode cX0_drawn 8 = .ok (.imul, 1) := dk_104 (dk_at dksX0_drawn_0 8 rfl rfl)
theorem dX0_drawn_9 : decode cX0_drawn 9 = .ok (.ldc_w 312, 3) := dk_19 1 56 (dk_at dksX0_drawn_0 9 rfl rfl)
theorem dX0_drawn_12 : decode cX0_drawn 12 = .ok (.iadd, 1) := dk_96 (dk_at dksX0_drawn_0 12 rfl rfl)
theorem dX0_drawn_13 : decode cX0_drawn 13 = .ok (.putfield 308, 3) := dk_181 1 52 (dk_at dksX0_drawn_0 13 rfl rfl)
theorem dX0_drawn_16 : decode cX0_drawn 16 = .ok (.aload_n 0, 1) := dk_42 (dk_at dksX0_drawn_0 16 rfl rfl)
theorem dX0_drawn_17 : decode cX0_drawn 17 = .ok (.getfield 308, 3) := dk_180 1 52 (dk_at dksX0_drawn_0 17 rfl rfl)
theorem dX0_drawn_20 : decode cX0_drawn 20 = .ok (.ldc_w 313, 3) := dk_19 1 57 (dk_at dksX0_drawn_0 20 rfl rfl)
theorem dX0_drawn_23 : decode cX0_drawn 23 = .ok (.iand, 1) := dk_126 (dk_at dksX0_drawn_0 23 rfl rfl)
theorem dX0_drawn_24 : decode cX0_drawn 24 = .ok (.sipush 256, 3) := dk_17 1 0 (dk_at dksX0_drawn_1 0 rfl rfl)
theorem dX0_drawn_27 : decode cX0_drawn 27 = .ok (.idiv, 1) := dk_108 (dk_at dksX0_drawn_1 3 rfl rfl)
theorem dX0_drawn_28 : decode cX0_drawn 28 = .ok (.iload_n 1, 1) := dk_27 (dk_at dksX0_drawn_1 4 rfl rfl)
theorem dX0_drawn_29 : decode cX0_drawn 29 = .ok (.irem, 1) := dk_112 (dk_at dksX0_drawn_1 5 rfl rfl)
theorem dX0_drawn_30 : decode cX0_drawn 30 = .ok (.ireturn, 1) := dk_172 (dk_at dksX0_drawn_1 6 rfl rfl)
abbrev cX0_pathIn : ByteArray := prog_1_method_44_code
def yX0_pathIn : MethodName := ⟨RX0, "pathIn", "(LGathersAllFaults$Value;I)I"⟩
def dkwX0_pathIn_7 : List UInt8 := [132, 6, 1, 167, 255, 209, 29, 172]
abbrev dktX0_pathIn_7 : List UInt8 := dkwX0_pathIn_7 ++ []
def dkwX0_pathIn_6 : List UInt8 := [21, 6, 50, 16, 10, 28, 104, 4, 96, 8, 96, 21, 6, 96, 182, 1, 65, 167, 0, 4, 29, 62]
abbrev dktX0_pathIn_6 : List UInt8 := dkwX0_pathIn_6 ++ dktX0_pathIn_7
def dkwX0_pathIn_5 : List UInt8 := [54, 6, 21, 6, 25, 5, 182, 1, 69, 162, 0, 43, 29, 16, 247, 160, 0, 29, 42, 25, 5, 180, 0, 215]
abbrev dktX0_pathIn_5 : List UInt8 := dkwX0_pathIn_5 ++ dktX0_pathIn_6
def dkwX0_pathIn_4 : List UInt8 := [132, 8, 1, 167, 255, 210, 167, 0, 69, 43, 193, 0, 213, 153, 0, 62, 43, 192, 0, 213, 58, 5, 3]
abbrev dktX0_pathIn_4 : List UInt8 := dkwX0_pathIn_4 ++ dktX0_pathIn_5
def dkwX0_pathIn_3 : List UInt8 := [25, 4, 21, 9, 182, 1, 64, 16, 10, 28, 104, 21, 9, 96, 182, 1, 65, 167, 0, 4, 29, 62]
abbrev dktX0_pathIn_3 : List UInt8 := dkwX0_pathIn_3 ++ dktX0_pathIn_4
def dkwX0_pathIn_2 : List UInt8 := [3, 54, 8, 21, 8, 21, 7, 162, 0, 45, 25, 6, 21, 8, 46, 54, 9, 29, 16, 247, 160, 0, 24, 42]
abbrev dktX0_pathIn_2 : List UInt8 := dkwX0_pathIn_2 ++ dktX0_pathIn_3
def dkwX0_pathIn_1 : List UInt8 := [193, 0, 196, 153, 0, 76, 43, 192, 0, 196, 58, 4, 25, 4, 180, 1, 61, 58, 6, 25, 6, 190, 54, 7]
abbrev dktX0_pathIn_1 : List UInt8 := dkwX0_pathIn_1 ++ dktX0_pathIn_2
def dkwX0_pathIn_0 : List UInt8 := [42, 180, 1, 58, 154, 0, 5, 28, 172, 42, 89, 180, 1, 58, 4, 100, 181, 1, 58, 16, 247, 62, 43]
abbrev dktX0_pathIn_0 : List UInt8 := dkwX0_pathIn_0 ++ dktX0_pathIn_1
theorem dksX0_pathIn_0 : cX0_pathIn.data.toList.drop 0 = dktX0_pathIn_0 := by decide +kernel
theorem dksX0_pathIn_1 : cX0_pathIn.data.toList.drop 23 = dktX0_pathIn_1 := dk_seg dksX0_pathIn_0 23 rfl rfl
theorem dksX0_pathIn_2 : cX0_pathIn.data.toList.drop 47 = dktX0_pathIn_2 := dk_seg dksX0_pathIn_1 24 rfl rfl
theorem dksX0_pathIn_3 : cX0_pathIn.data.toList.drop 71 = dktX0_pathIn_3 := dk_seg dksX0_pathIn_2 24 rfl rfl
theorem dksX0_pathIn_4 : cX0_pathIn.data.toList.drop 93 = dktX0_pathIn_4 := dk_seg dksX0_pathIn_3 22 rfl rfl
theorem dksX0_pathIn_5 : cX0_pathIn.data.toList.drop 116 = dktX0_pathIn_5 := dk_seg dksX0_pathIn_4 23 rfl rfl
theorem dksX0_pathIn_6 : cX0_pathIn.data.toList.drop 140 = dktX0_pathIn_6 := dk_seg dksX0_pathIn_5 24 rfl rfl
theorem dksX0_pathIn_7 : cX0_pathIn.data.toList.drop 162 = dktX0_pathIn_7 := dk_seg dksX0_pathIn_6 22 rfl rfl
theorem dX0_pathIn_0 : decode cX0_pathIn 0 = .ok (.aload_n 0, 1) := dk_42 (dk_at dksX0_pathIn_0 0 rfl rfl)
theorem dX0_pathIn_1 : decode cX0_pathIn 1 = .ok (.getfield 314, 3) := dk_180 1 58 (dk_at dksX0_pathIn_0 1 rfl rfl)
theorem dX0_pathIn_4 : decode cX0_pathIn 4 = .ok (.ifCond .ne 5, 3) := dk_154 0 5 (dk_at dksX0_pathIn_0 4 rfl rfl)
theorem dX0_pathIn_7 : decode cX0_pathIn 7 = .ok (.iload_n 2, 1) := dk_28 (dk_at dksX0_pathIn_0 7 rfl rfl)
theorem dX0_pathIn_8 : decode cX0_pathIn 8 = .ok (.ireturn, 1) := dk_172 (dk_at dksX0_pathIn_0 8 rfl rfl)
theorem dX0_pathIn_9 : decode cX0_pathIn 9 = .ok (.aload_n 0, 1) := dk_42 (dk_at dksX0_pathIn_0 9 rfl rfl)
theorem dX0_pathIn_10 : decode cX0_pathIn 10 = .ok (.dup, 1) := dk_89 (dk_at dksX0_pathIn_0 10 rfl rfl)
theorem dX0_pathIn_11 : decode cX0_pathIn 11 = .ok (.getfield 314, 3) := dk_180 1 58 (dk_at dksX0_pathIn_0 11 rfl rfl)
theorem dX0_pathIn_14 : decode cX0_pathIn 14 = .ok (.iconst 1, 1) := dk_4 (dk_at dksX0_pathIn_0 14 rfl rfl)
theorem dX0_pathIn_15 : decode cX0_pathIn 15 = .ok (.isub, 1) := dk_100 (dk_at dksX0_pathIn_0 15 rfl rfl)
theorem dX0_pathIn_16 : decode cX0_pathIn 16 = .ok (.putfield 314, 3) := dk_181 1 58 (dk_at dksX0_pathIn_0 16 rfl rfl)
theorem dX0_pathIn_19 : decode cX0_pathIn 19 = .ok (.bipush (-9), 2) := dk_16 247 (dk_at dksX0_pathIn_0 19 rfl rfl)
theorem dX0_pathIn_21 : decode cX0_pathIn 21 = .ok (.istore_n 3, 1) := dk_62 (dk_at dksX0_pathIn_0 21 rfl rfl)
theorem dX0_pathIn_22 : decode cX0_pathIn 22 = .ok (.aload_n 1, 1) := dk_43 (dk_at dksX0_pathIn_0 22 rfl rfl)
theorem dX0_pathIn_23 : decode cX0_pathIn 23 = .ok (.instanceof 196, 3) := dk_193 0 196 (dk_at dksX0_pathIn_1 0 rfl rfl)
theorem dX0_pathIn_26 : decode cX0_pathIn 26 = .ok (.ifCond .eq 76, 3) := dk_153 0 76 (dk_at dksX0_pathIn_1 3 rfl rfl)
theorem dX0_pathIn_29 : decode cX0_pathIn 29 = .ok (.aload_n 1, 1) := dk_43 (dk_at dksX0_pathIn_1 6 rfl rfl)
theorem dX0_pathIn_30 : decode cX0_pathIn 30 = .ok (.checkcast 196, 3) := dk_192 0 196 (dk_at dksX0_pathIn_1 7 rfl rfl)
theorem dX0_pathIn_33 : decode cX0_pathIn 33 = .ok (.astore 4, 2) := dk_58 4 (dk_at dksX0_pathIn_1 10 rfl rfl)
theorem dX0_pathIn_35 : decode cX0_pathIn 35 = .ok (.aload 4, 2) := dk_25 4 (dk_at dksX0_pathIn_1 12 rfl rfl)
theorem dX0_pathIn_37 : decode cX0_pathIn 37 = .ok (.getfield 317, 3) := dk_180 1 61 (dk_at dksX0_pathIn_1 14 rfl rfl)
theorem dX0_pathIn_40 : decode cX0_pathIn 40 = .ok (.astore 6, 2) := dk_58 6 (dk_at dksX0_pathIn_1 17 rfl rfl)
theorem dX0_pathIn_42 : decode cX0_pathIn 42 = .ok (.aload 6, 2) := dk_25 6 (dk_at dksX0_pathIn_1 19 rfl rfl)
theorem dX0_pathIn_44 : decode cX0_pathIn 44 = .ok (.arraylength, 1) := dk_190 (dk_at dksX0_pathIn_1 21 rfl rfl)
theorem dX0_pathIn_45 : decode cX0_pathIn 45 = .ok (.istore 7, 2) := dk_54 7 (dk_at dksX0_pathIn_1 22 rfl rfl)
theorem dX0_pathIn_47 : decode cX0_pathIn 47 = .ok (.iconst 0, 1) := dk_3 (dk_at dksX0_pathIn_2 0 rfl rfl)
theorem dX0_pathIn_48 : decode cX0_pathIn 48 = .ok (.istore 8, 2) := dk_54 8 (dk_at dksX0_pathIn_2 1 rfl rfl)
theorem dX0_pathIn_50 : decode cX0_pathIn 50 = .ok (.iload 8, 2) := dk_21 8 (dk_at dksX0_pathIn_2 3 rfl rfl)
theorem dX0_pathIn_52 : decode cX0_pathIn 52 = .ok (.iload 7, 2) := dk_21 7 (dk_at dksX0_pathIn_2 5 rfl rfl)
theorem dX0_pathIn_54 : decode cX0_pathIn 54 = .ok (.if_icmp .ge 45, 3) := dk_162 0 45 (dk_at dksX0_pathIn_2 7 rfl rfl)
theorem dX0_pathIn_57 : decode cX0_pathIn 57 = .ok (.aload 6, 2) := dk_25 6 (dk_at dksX0_pathIn_2 10 rfl rfl)
theorem dX0_pathIn_59 : decode cX0_pathIn 59 = .ok (.iload 8, 2) := dk_21 8 (dk_at dksX0_pathIn_2 12 rfl rfl)
theorem dX0_pathIn_61 : decode cX0_pathIn 61 = .ok (.iaload, 1) := dk_46 (dk_at dksX0_pathIn_2 14 rfl rfl)
theorem dX0_pathIn_62 : decode cX0_pathIn 62 = .ok (.istore 9, 2) := dk_54 9 (dk_at dksX0_pathIn_2 15 rfl rfl)
theorem dX0_pathIn_64 : decode cX0_pathIn 64 = .ok (.iload_n 3, 1) := dk_29 (dk_at dksX0_pathIn_2 17 rfl rfl)
theorem dX0_pathIn_65 : decode cX0_pathIn 65 = .ok (.bipush (-9), 2) := dk_16 247 (dk_at dksX0_pathIn_2 18 rfl rfl)
theorem dX0_pathIn_67 : decode cX0_pathIn 67 = .ok (.if_icmp .ne 24, 3) := dk_160 0 24 (dk_at dksX0_pathIn_2 20 rfl rfl)
theorem dX0_pathIn_70 : decode cX0_pathIn 70 = .ok (.aload_n 0, 1) := dk_42 (dk_at dksX0_pathIn_2 23 rfl rfl)
theorem dX0_pathIn_71 : decode cX0_pathIn 71 = .ok (.aload 4, 2) := dk_25 4 (dk_at dksX0_pathIn_3 0 rfl rfl)
theorem dX0_pathIn_73 : decode cX0_pathIn 73 = .ok (.iload 9, 2) := dk_21 9 (dk_at dksX0_pathIn_3 2 rfl rfl)
theorem dX0_pathIn_75 : decode cX0_pathIn 75 = .ok (.invokevirtual 320, 3) := dk_182 1 64 (dk_at dksX0_pathIn_3 4 rfl rfl)
theorem dX0_pathIn_78 : decode cX0_pathIn 78 = .ok (.bipush 10, 2) := dk_16 10 (dk_at dksX0_pathIn_3 7 rfl rfl)
theorem dX0_pathIn_80 : decode cX0_pathIn 80 = .ok (.iload_n 2, 1) := dk_28 (dk_at dksX0_pathIn_3 9 rfl rfl)
theorem dX0_pathIn_81 : decode cX0_pathIn 81 = .ok (.imul, 1) := dk_104 (dk_at dksX0_pathIn_3 10 rfl rfl)
theorem dX0_pathIn_82 : decode cX0_pathIn 82 = .ok (.iload 9, 2) := dk_21 9 (dk_at dksX0_pathIn_3 11 rfl rfl)
theorem dX0_pathIn_84 : decode cX0_pathIn 84 = .ok (.iadd, 1) := dk_96 (dk_at dksX0_pathIn_3 13 rfl rfl)
theorem dX0_pathIn_85 : decode cX0_pathIn 85 = .ok (.invokevirtual 321, 3) := dk_182 1 65 (dk_at dksX0_pathIn_3 14 rfl rfl)
theorem dX0_pathIn_88 : decode cX0_pathIn 88 = .ok (.goto 4, 3) := dk_167 0 4 (dk_at dksX0_pathIn_3 17 rfl rfl)
theorem dX0_pathIn_91 : decode cX0_pathIn 91 = .ok (.iload_n 3, 1) := dk_29 (dk_at dksX0_pathIn_3 20 rfl rfl)
theorem dX0_pathIn_92 : decode cX0_pathIn 92 = .ok (.istore_n 3, 1) := dk_62 (dk_at dksX0_pathIn_3 21 rfl rfl)
theorem dX0_pathIn_93 : decode cX0_pathIn 93 = .ok (.iinc 8 1, 3) := dk_132 8 1 (dk_at dksX0_pathIn_4 0 rfl rfl)
theorem dX0_pathIn_96 : decode cX0_pathIn 96 = .ok (.goto (-46), 3) := dk_167 255 210 (dk_at dksX0_pathIn_4 3 rfl rfl)
theorem dX0_pathIn_99 : decode cX0_pathIn 99 = .ok (.goto 69, 3) := dk_167 0 69 (dk_at dksX0_pathIn_4 6 rfl rfl)
theorem dX0_pathIn_102 : decode cX0_pathIn 102 = .ok (.aload_n 1, 1) := dk_43 (dk_at dksX0_pathIn_4 9 rfl rfl)
theorem dX0_pathIn_103 : decode cX0_pathIn 103 = .ok (.instanceof 213, 3) := dk_193 0 213 (dk_at dksX0_pathIn_4 10 rfl rfl)
theorem dX0_pathIn_106 : decode cX0_pathIn 106 = .ok (.ifCond .eq 62, 3) := dk_153 0 62 (dk_at dksX0_pathIn_4 13 rfl rfl)
theorem dX0_pathIn_109 : decode cX0_pathIn 109 = .ok (.aload_n 1, 1) := dk_43 (dk_at dksX0_pathIn_4 16 rfl rfl)
theorem dX0_pathIn_110 : decode cX0_pathIn 110 = .ok (.checkcast 213, 3) := dk_192 0 213 (dk_at dksX0_pathIn_4 17 rfl rfl)
theorem dX0_pathIn_113 : decode cX0_pathIn 113 = .ok (.astore 5, 2) := dk_58 5 (dk_at dksX0_pathIn_4 20 rfl rfl)
theorem dX0_pathIn_115 : decode cX0_pathIn 115 = .ok (.iconst 0, 1) := dk_3 (dk_at dksX0_pathIn_4 22 rfl rfl)
theorem dX0_pathIn_116 : decode cX0_pathIn 116 = .ok (.istore 6, 2) := dk_54 6 (dk_at dksX0_pathIn_5 0 rfl rfl)
theorem dX0_pathIn_118 : decode cX0_pathIn 118 = .ok (.iload 6, 2) := dk_21 6 (dk_at dksX0_pathIn_5 2 rfl rfl)
theorem dX0_pathIn_120 : decode cX0_pathIn 120 = .ok (.aload 5, 2) := dk_25 5 (dk_at dksX0_pathIn_5 4 rfl rfl)
theorem dX0_pathIn_122 : decode cX0_pathIn 122 = .ok (.invokevirtual 325, 3) := dk_182 1 69 (dk_at dksX0_pathIn_5 6 rfl rfl)
theorem dX0_pathIn_125 : decode cX0_pathIn 125 = .ok (.if_icmp .ge 43, 3) := dk_162 0 43 (dk_at dksX0_pathIn_5 9 rfl rfl)
theorem dX0_pathIn_128 : decode cX0_pathIn 128 = .ok (.iload_n 3, 1) := dk_29 (dk_at dksX0_pathIn_5 12 rfl rfl)
theorem dX0_pathIn_129 : decode cX0_pathIn 129 = .ok (.bipush (-9), 2) := dk_16 247 (dk_at dksX0_pathIn_5 13 rfl rfl)
theorem dX0_pathIn_131 : decode cX0_pathIn 131 = .ok (.if_icmp .ne 29, 3) := dk_160 0 29 (dk_at dksX0_pathIn_5 15 rfl rfl)
theorem dX0_pathIn_134 : decode cX0_pathIn 134 = .ok (.aload_n 0, 1) := dk_42 (dk_at dksX0_pathIn_5 18 rfl rfl)
theorem dX0_pathIn_135 : decode cX0_pathIn 135 = .ok (.aload 5, 2) := dk_25 5 (dk_at dksX0_pathIn_5 19 rfl rfl)
theorem dX0_pathIn_137 : decode cX0_pathIn 137 = .ok (.getfield 215, 3) := dk_180 0 215 (dk_at dksX0_pathIn_5 21 rfl rfl)
theorem dX0_pathIn_140 : decode cX0_pathIn 140 = .ok (.iload 6, 2) := dk_21 6 (dk_at dksX0_pathIn_6 0 rfl rfl)
theorem dX0_pathIn_142 : decode cX0_pathIn 142 = .ok (.aaload, 1) := dk_50 (dk_at dksX0_pathIn_6 2 rfl rfl)
theorem dX0_pathIn_143 : decode cX0_pathIn 143 = .ok (.bipush 10, 2) := dk_16 10 (dk_at dksX0_pathIn_6 3 rfl rfl)
theorem dX0_pathIn_145 : decode cX0_pathIn 145 = .ok (.iload_n 2, 1) := dk_28 (dk_at dksX0_pathIn_6 5 rfl rfl)
theorem dX0_pathIn_146 : decode cX0_pathIn 146 = .ok (.imul, 1) := dk_104 (dk_at dksX0_pathIn_6 6 rfl rfl)
theorem dX0_pathIn_147 : decode cX0_pathIn 147 = .ok (.iconst 1, 1) := dk_4 (dk_at dksX0_pathIn_6 7 rfl rfl)
theorem dX0_pathIn_148 : decode cX0_pathIn 148 = .ok (.iadd, 1) := dk_96 (dk_at dksX0_pathIn_6 8 rfl rfl)
theorem dX0_pathIn_149 : decode cX0_pathIn 149 = .ok (.iconst 5, 1) := dk_8 (dk_at dksX0_pathIn_6 9 rfl rfl)
theorem dX0_pathIn_150 : decode cX0_pathIn 150 = .ok (.iadd, 1) := dk_96 (dk_at dksX0_pathIn_6 10 rfl rfl)
theorem dX0_pathIn_151 : decode cX0_pathIn 151 = .ok (.iload 6, 2) := dk_21 6 (dk_at dksX0_pathIn_6 11 rfl rfl)
theorem dX0_pathIn_153 : decode cX0_pathIn 153 = .ok (.iadd, 1) := dk_96 (dk_at dksX0_pathIn_6 13 rfl rfl)
theorem dX0_pathIn_154 : decode cX0_pathIn 154 = .ok (.invokevirtual 321, 3) := dk_182 1 65 (dk_at dksX0_pathIn_6 14 rfl rfl)
theorem dX0_pathIn_157 : decode cX0_pathIn 157 = .ok (.goto 4, 3) := dk_167 0 4 (dk_at dksX0_pathIn_6 17 rfl rfl)
theorem dX0_pathIn_160 : decode cX0_pathIn 160 = .ok (.iload_n 3, 1) := dk_29 (dk_at dksX0_pathIn_6 20 rfl rfl)
theorem dX0_pathIn_161 : decode cX0_pathIn 161 = .ok (.istore_n 3, 1) := dk_62 (dk_at dksX0_pathIn_6 21 rfl rfl)
theorem dX0_pathIn_162 : decode cX0_pathIn 162 = .ok (.iinc 6 1, 3) := dk_132 6 1 (dk_at dksX0_pathIn_7 0 rfl rfl)
theorem dX0_pathIn_165 : decode cX0_pathIn 165 = .ok (.goto (-47), 3) := dk_167 255 209 (dk_at dksX0_pathIn_7 3 rfl rfl)
theorem dX0_pathIn_168 : decode cX0_pathIn 168 = .ok (.iload_n 3, 1) := dk_29 (dk_at dksX0_pathIn_7 6 rfl rfl)
theorem dX0_pathIn_169 : decode cX0_pathIn 169 = .ok (.ireturn, 1) := dk_172 (dk_at dksX0_pathIn_7 7 rfl rfl)
abbrev cX0_imageIt : ByteArray := prog_1_method_57_code
def yX0_imageIt : MethodName := ⟨RX0, "imageIt", "()I"⟩
def dkwX0_imageIt_1 : List UInt8 := [180, 0, 66, 182, 0, 54, 172]
abbrev dktX0_imageIt_1 : List UInt8 := dkwX0_imageIt_1 ++ []
def dkwX0_imageIt_0 : List UInt8 := [42, 4, 181, 1, 140, 42, 42, 180, 0, 66, 181, 1, 144, 42, 42, 180, 0, 73, 181, 1, 147, 42]
abbrev dktX0_imageIt_0 : List UInt8 := dkwX0_imageIt_0 ++ dktX0_imageIt_1
theorem dksX0_imageIt_0 : cX0_imageIt.data.toList.drop 0 = dktX0_imageIt_0 := by decide +kernel
theorem dksX0_imageIt_1 : cX0_imageIt.data.toList.drop 22 = dktX0_imageIt_1 := dk_seg dksX0_imageIt_0 22 rfl rfl
theorem dX0_imageIt_0 : decode cX0_imageIt 0 = .ok (.aload_n 0, 1) := dk_42 (dk_at dksX0_imageIt_0 0 rfl rfl)
theorem dX0_imageIt_1 : decode cX0_imageIt 1 = .ok (.iconst 1, 1) := dk_4 (dk_at dksX0_imageIt_0 1 rfl rfl)
theorem dX0_imageIt_2 : decode cX0_imageIt 2 = .ok (.putfield 396, 3) := dk_181 1 140 (dk_at dksX0_imageIt_0 2 rfl rfl)
theorem dX0_imageIt_5 : decode cX0_imageIt 5 = .ok (.aload_n 0, 1) := dk_42 (dk_at dksX0_imageIt_0 5 rfl rfl)
theorem dX0_imageIt_6 : decode cX0_imageIt 6 = .ok (.aload_n 0, 1) := dk_42 (dk_at dksX0_imageIt_0 6 rfl rfl)
theorem dX0_imageIt_7 : decode cX0_imageIt 7 = .ok (.getfield 66, 3) := dk_180 0 66 (dk_at dksX0_imageIt_0 7 rfl rfl)
theorem dX0_imageIt_10 : decode cX0_imageIt 10 = .ok (.putfield 400, 3) := dk_181 1 144 (dk_at dksX0_imageIt_0 10 rfl rfl)
theorem dX0_imageIt_13 : decode cX0_imageIt 13 = .ok (.aload_n 0, 1) := dk_42 (dk_at dksX0_imageIt_0 13 rfl rfl)
theorem dX0_imageIt_14 : decode cX0_imageIt 14 = .ok (.aload_n 0, 1) := dk_42 (dk_at dksX0_imageIt_0 14 rfl rfl)
theorem dX0_imageIt_15 : decode cX0_imageIt 15 = .ok (.getfield 73, 3) := dk_180 0 73 (dk_at dksX0_imageIt_0 15 rfl rfl)
theorem dX0_imageIt_18 : decode cX0_imageIt 18 = .ok (.putfield 403, 3) := dk_181 1 147 (dk_at dksX0_imageIt_0 18 rfl rfl)
theorem dX0_imageIt_21 : decode cX0_imageIt 21 = .ok (.aload_n 0, 1) := dk_42 (dk_at dksX0_imageIt_0 21 rfl rfl)
theorem dX0_imageIt_22 : decode cX0_imageIt 22 = .ok (.getfield 66, 3) := dk_180 0 66 (dk_at dksX0_imageIt_1 0 rfl rfl)
theorem dX0_imageIt_25 : decode cX0_imageIt 25 = .ok (.invokevirtual 54, 3) := dk_182 0 54 (dk_at dksX0_imageIt_1 3 rfl rfl)
theorem dX0_imageIt_28 : decode cX0_imageIt 28 = .ok (.ireturn, 1) := dk_172 (dk_at dksX0_imageIt_1 6 rfl rfl)
abbrev cX0_onIt : ByteArray := prog_1_method_58_code
def yX0_onIt : MethodName := ⟨RX0, "onIt", "()I"⟩
def dkwX0_onIt_1 : List UInt8 := [181, 0, 73, 42, 180, 0, 66, 182, 0, 54, 172]
abbrev dktX0_onIt_1 : List UInt8 := dkwX0_onIt_1 ++ []
def dkwX0_onIt_0 : List UInt8 := [42, 180, 1, 140, 16, 253, 184, 0, 9, 42, 42, 180, 1, 144, 181, 0, 66, 42, 42, 180, 1, 147]
abbrev dktX0_onIt_0 : List UInt8 := dkwX0_onIt_0 ++ dktX0_onIt_1
theorem dksX0_onIt_0 : cX0_onIt.data.toList.drop 0 = dktX0_onIt_0 := by decide +kernel
theorem dksX0_onIt_1 : cX0_onIt.data.toList.drop 22 = dktX0_onIt_1 := dk_seg dksX0_onIt_0 22 rfl rfl
theorem dX0_onIt_0 : decode cX0_onIt 0 = .ok (.aload_n 0, 1) := dk_42 (dk_at dksX0_onIt_0 0 rfl rfl)
theorem dX0_onIt_1 : decode cX0_onIt 1 = .ok (.getfield 396, 3) := dk_180 1 140 (dk_at dksX0_onIt_0 1 rfl rfl)
theorem dX0_onIt_4 : decode cX0_onIt 4 = .ok (.bipush (-3), 2) := dk_16 253 (dk_at dksX0_onIt_0 4 rfl rfl)
theorem dX0_onIt_6 : decode cX0_onIt 6 = .ok (.invokestatic 9, 3) := dk_184 0 9 (dk_at dksX0_onIt_0 6 rfl rfl)
theorem dX0_onIt_9 : decode cX0_onIt 9 = .ok (.aload_n 0, 1) := dk_42 (dk_at dksX0_onIt_0 9 rfl rfl)
theorem dX0_onIt_10 : decode cX0_onIt 10 = .ok (.aload_n 0, 1) := dk_42 (dk_at dksX0_onIt_0 10 rfl rfl)
theorem dX0_onIt_11 : decode cX0_onIt 11 = .ok (.getfield 400, 3) := dk_180 1 144 (dk_at dksX0_onIt_0 11 rfl rfl)
theorem dX0_onIt_14 : decode cX0_onIt 14 = .ok (.putfield 66, 3) := dk_181 0 66 (dk_at dksX0_onIt_0 14 rfl rfl)
theorem dX0_onIt_17 : decode cX0_onIt 17 = .ok (.aload_n 0, 1) := dk_42 (dk_at dksX0_onIt_0 17 rfl rfl)
theorem dX0_onIt_18 : decode cX0_onIt 18 = .ok (.aload_n 0, 1) := dk_42 (dk_at dksX0_onIt_0 18 rfl rfl)
theorem dX0_onIt_19 : decode cX0_onIt 19 = .ok (.getfield 403, 3) := dk_180 1 147 (dk_at dksX0_onIt_0 19 rfl rfl)
theorem dX0_onIt_22 : decode cX0_onIt 22 = .ok (.putfield 73, 3) := dk_181 0 73 (dk_at dksX0_onIt_1 0 rfl rfl)
theorem dX0_onIt_25 : decode cX0_onIt 25 = .ok (.aload_n 0, 1) := dk_42 (dk_at dksX0_onIt_1 3 rfl rfl)
theorem dX0_onIt_26 : decode cX0_onIt 26 = .ok (.getfield 66, 3) := dk_180 0 66 (dk_at dksX0_onIt_1 4 rfl rfl)
theorem dX0_onIt_29 : decode cX0_onIt 29 = .ok (.invokevirtual 54, 3) := dk_182 0 54 (dk_at dksX0_onIt_1 7 rfl rfl)
theorem dX0_onIt_32 : decode cX0_onIt 32 = .ok (.ireturn, 1) := dk_172 (dk_at dksX0_onIt_1 10 rfl rfl)
abbrev cX0_refuse : ByteArray := prog_1_method_47_code
def yX0_refuse : MethodName := ⟨RX0, "refuse", "(I)I"⟩
def dkwX0_refuse_0 : List UInt8 := [27, 16, 236, 164, 0, 14, 42, 180, 0, 85, 27, 116, 92, 46, 4, 96, 79, 27, 172]
abbrev dktX0_refuse_0 : List UInt8 := dkwX0_refuse_0 ++ []
theorem dksX0_refuse_0 : cX0_refuse.data.toList.drop 0 = dktX0_refuse_0 := by decide +kernel
theorem dX0_refuse_0 : decode cX0_refuse 0 = .ok (.iload_n 1, 1) := dk_27 (dk_at dksX0_refuse_0 0 rfl rfl)
theorem dX0_refuse_1 : decode cX0_refuse 1 = .ok (.bipush (-20), 2) := dk_16 236 (dk_at dksX0_refuse_0 1 rfl rfl)
theorem dX0_refuse_3 : decode cX0_refuse 3 = .ok (.if_icmp .le 14, 3) := dk_164 0 14 (dk_at dksX0_refuse_0 3 rfl rfl)
theorem dX0_refuse_6 : decode cX0_refuse 6 = .ok (.aload_n 0, 1) := dk_42 (dk_at dksX0_refuse_0 6 rfl rfl)
theorem dX0_refuse_7 : decode cX0_refuse 7 = .ok (.getfield 85, 3) := dk_180 0 85 (dk_at dksX0_refuse_0 7 rfl rfl)
theorem dX0_refuse_10 : decode cX0_refuse 10 = .ok (.iload_n 1, 1) := dk_27 (dk_at dksX0_refuse_0 10 rfl rfl)
theorem dX0_refuse_11 : decode cX0_refuse 11 = .ok (.ineg, 1) := dk_116 (dk_at dksX0_refuse_0 11 rfl rfl)
theorem dX0_refuse_12 : decode cX0_refuse 12 = .ok (.dup2, 1) := dk_92 (dk_at dksX0_refuse_0 12 rfl rfl)
theorem dX0_refuse_13 : decode cX0_refuse 13 = .ok (.iaload, 1) := dk_46 (dk_at dksX0_refuse_0 13 rfl rfl)
theorem dX0_refuse_14 : decode cX0_refuse 14 = .ok (.iconst 1, 1) := dk_4 (dk_at dksX0_refuse_0 14 rfl rfl)
theorem dX0_refuse_15 : decode cX0_refuse 15 = .ok (.iadd, 1) := dk_96 (dk_at dksX0_refuse_0 15 rfl rfl)
theorem dX0_refuse_16 : decode cX0_refuse 16 = .ok (.iastore, 1) := dk_79 (dk_at dksX0_refuse_0 16 rfl rfl)
theorem dX0_refuse_17 : decode cX0_refuse 17 = .ok (.iload_n 1, 1) := dk_27 (dk_at dksX0_refuse_0 17 rfl rfl)
theorem dX0_refuse_18 : decode cX0_refuse 18 = .ok (.ireturn, 1) := dk_172 (dk_at dksX0_refuse_0 18 rfl rfl)
abbrev cX0_value : ByteArray := prog_1_method_65_code
def yX0_value : MethodName := ⟨RX0, "value", "()I"⟩
def dkwX0_value_0 : List UInt8 := [42, 4, 3, 3, 3, 182, 1, 199, 172]
abbrev dktX0_value_0 : List UInt8 := dkwX0_value_0 ++ []
theorem dksX0_value_0 : cX0_value.data.toList.drop 0 = dktX0_value_0 := by decide +kernel
theorem dX0_value_0 : decode cX0_value 0 = .ok (.aload_n 0, 1) := dk_42 (dk_at dksX0_value_0 0 rfl rfl)
theorem dX0_value_1 : decode cX0_value 1 = .ok (.iconst 1, 1) := dk_4 (dk_at dksX0_value_0 1 rfl rfl)
theorem dX0_value_2 : decode cX0_value 2 = .ok (.iconst 0, 1) := dk_3 (dk_at dksX0_value_0 2 rfl rfl)
theorem dX0_value_3 : decode cX0_value 3 = .ok (.iconst 0, 1) := dk_3 (dk_at dksX0_value_0 3 rfl rfl)
theorem dX0_value_4 : decode cX0_value 4 = .ok (.iconst 0, 1) := dk_3 (dk_at dksX0_value_0 4 rfl rfl)
theorem dX0_value_5 : decode cX0_value 5 = .ok (.invokevirtual 455, 3) := dk_182 1 199 (dk_at dksX0_value_0 5 rfl rfl)
theorem dX0_value_8 : decode cX0_value 8 = .ok (.ireturn, 1) := dk_172 (dk_at dksX0_value_0 8 rfl rfl)
abbrev cX0_check : ByteArray := prog_1_method_66_code
def yX0_check : MethodName := ⟨RX0, "check", "()I"⟩
def dkwX0_check_0 : List UInt8 := [42, 5, 3, 3, 3, 182, 1, 199, 172]
abbrev dktX0_check_0 : List UInt8 := dkwX0_check_0 ++ []
theorem dksX0_check_0 : cX0_check.data.toList.drop 0 = dktX0_check_0 := by decide +kernel
theorem dX0_check_0 : decode cX0_check 0 = .ok (.aload_n 0, 1) := dk_42 (dk_at dksX0_check_0 0 rfl rfl)
theorem dX0_check_1 : decode cX0_check 1 = .ok (.iconst 2, 1) := dk_5 (dk_at dksX0_check_0 1 rfl rfl)
theorem dX0_check_2 : decode cX0_check 2 = .ok (.iconst 0, 1) := dk_3 (dk_at dksX0_check_0 2 rfl rfl)
theorem dX0_check_3 : decode cX0_check 3 = .ok (.iconst 0, 1) := dk_3 (dk_at dksX0_check_0 3 rfl rfl)
theorem dX0_check_4 : decode cX0_check 4 = .ok (.iconst 0, 1) := dk_3 (dk_at dksX0_check_0 4 rfl rfl)
theorem dX0_check_5 : decode cX0_check 5 = .ok (.invokevirtual 455, 3) := dk_182 1 199 (dk_at dksX0_check_0 5 rfl rfl)
theorem dX0_check_8 : decode cX0_check 8 = .ok (.ireturn, 1) := dk_172 (dk_at dksX0_check_0 8 rfl rfl)
abbrev cX0_part : ByteArray := prog_1_method_67_code
def yX0_part : MethodName := ⟨RX0, "part", "(II)I"⟩
def dkwX0_part_0 : List UInt8 := [42, 6, 27, 28, 3, 182, 1, 199, 172]
abbrev dktX0_part_0 : List UInt8 := dkwX0_part_0 ++ []
theorem dksX0_part_0 : cX0_part.data.toList.drop 0 = dktX0_part_0 := by decide +kernel
theorem dX0_part_0 : decode cX0_part 0 = .ok (.aload_n 0, 1) := dk_42 (dk_at dksX0_part_0 0 rfl rfl)
theorem dX0_part_1 : decode cX0_part 1 = .ok (.iconst 3, 1) := dk_6 (dk_at dksX0_part_0 1 rfl rfl)
theorem dX0_part_2 : decode cX0_part 2 = .ok (.iload_n 1, 1) := dk_27 (dk_at dksX0_part_0 2 rfl rfl)
theorem dX0_part_3 : decode cX0_part 3 = .ok (.iload_n 2, 1) := dk_28 (dk_at dksX0_part_0 3 rfl rfl)
theorem dX0_part_4 : decode cX0_part 4 = .ok (.iconst 0, 1) := dk_3 (dk_at dksX0_part_0 4 rfl rfl)
theorem dX0_part_5 : decode cX0_part 5 = .ok (.invokevirtual 455, 3) := dk_182 1 199 (dk_at dksX0_part_0 5 rfl rfl)
theorem dX0_part_8 : decode cX0_part 8 = .ok (.ireturn, 1) := dk_172 (dk_at dksX0_part_0 8 rfl rfl)
abbrev cX0_path : ByteArray := prog_1_method_68_code
def yX0_path : MethodName := ⟨RX0, "path", "(I)I"⟩
def dkwX0_path_0 : List UInt8 := [42, 7, 27, 3, 3, 182, 1, 199, 172]
abbrev dktX0_path_0 : List UInt8 := dkwX0_path_0 ++ []
theorem dksX0_path_0 : cX0_path.data.toList.drop 0 = dktX0_path_0 := by decide +kernel
theorem dX0_path_0 : decode cX0_path 0 = .ok (.aload_n 0, 1) := dk_42 (dk_at dksX0_path_0 0 rfl rfl)
theorem dX0_path_1 : decode cX0_path 1 = .ok (.iconst 4, 1) := dk_7 (dk_at dksX0_path_0 1 rfl rfl)
theorem dX0_path_2 : decode cX0_path 2 = .ok (.iload_n 1, 1) := dk_27 (dk_at dksX0_path_0 2 rfl rfl)
theorem dX0_path_3 : decode cX0_path 3 = .ok (.iconst 0, 1) := dk_3 (dk_at dksX0_path_0 3 rfl rfl)
theorem dX0_path_4 : decode cX0_path 4 = .ok (.iconst 0, 1) := dk_3 (dk_at dksX0_path_0 4 rfl rfl)
theorem dX0_path_5 : decode cX0_path 5 = .ok (.invokevirtual 455, 3) := dk_182 1 199 (dk_at dksX0_path_0 5 rfl rfl)
theorem dX0_path_8 : decode cX0_path 8 = .ok (.ireturn, 1) := dk_172 (dk_at dksX0_path_0 8 rfl rfl)
abbrev cX0_puts : ByteArray := prog_1_method_69_code
def yX0_puts : MethodName := ⟨RX0, "puts", "(II)I"⟩
def dkwX0_puts_0 : List UInt8 := [42, 8, 27, 28, 3, 182, 1, 199, 172]
abbrev dktX0_puts_0 : List UInt8 := dkwX0_puts_0 ++ []
theorem dksX0_puts_0 : cX0_puts.data.toList.drop 0 = dktX0_puts_0 := by decide +kernel
theorem dX0_puts_0 : decode cX0_puts 0 = .ok (.aload_n 0, 1) := dk_42 (dk_at dksX0_puts_0 0 rfl rfl)
theorem dX0_puts_1 : decode cX0_puts 1 = .ok (.iconst 5, 1) := dk_8 (dk_at dksX0_puts_0 1 rfl rfl)
theorem dX0_puts_2 : decode cX0_puts 2 = .ok (.iload_n 1, 1) := dk_27 (dk_at dksX0_puts_0 2 rfl rfl)
theorem dX0_puts_3 : decode cX0_puts 3 = .ok (.iload_n 2, 1) := dk_28 (dk_at dksX0_puts_0 3 rfl rfl)
theorem dX0_puts_4 : decode cX0_puts 4 = .ok (.iconst 0, 1) := dk_3 (dk_at dksX0_puts_0 4 rfl rfl)
theorem dX0_puts_5 : decode cX0_puts 5 = .ok (.invokevirtual 455, 3) := dk_182 1 199 (dk_at dksX0_puts_0 5 rfl rfl)
theorem dX0_puts_8 : decode cX0_puts 8 = .ok (.ireturn, 1) := dk_172 (dk_at dksX0_puts_0 8 rfl rfl)
abbrev cX0_drops : ByteArray := prog_1_method_70_code
def yX0_drops : MethodName := ⟨RX0, "drops", "(I)I"⟩
def dkwX0_drops_0 : List UInt8 := [42, 16, 6, 27, 3, 3, 182, 1, 199, 172]
abbrev dktX0_drops_0 : List UInt8 := dkwX0_drops_0 ++ []
theorem dksX0_drops_0 : cX0_drops.data.toList.drop 0 = dktX0_drops_0 := by decide +kernel
theorem dX0_drops_0 : decode cX0_drops 0 = .ok (.aload_n 0, 1) := dk_42 (dk_at dksX0_drops_0 0 rfl rfl)
theorem dX0_drops_1 : decode cX0_drops 1 = .ok (.bipush 6, 2) := dk_16 6 (dk_at dksX0_drops_0 1 rfl rfl)
theorem dX0_drops_3 : decode cX0_drops 3 = .ok (.iload_n 1, 1) := dk_27 (dk_at dksX0_drops_0 3 rfl rfl)
theorem dX0_drops_4 : decode cX0_drops 4 = .ok (.iconst 0, 1) := dk_3 (dk_at dksX0_drops_0 4 rfl rfl)
theorem dX0_drops_5 : decode cX0_drops 5 = .ok (.iconst 0, 1) := dk_3 (dk_at dksX0_drops_0 5 rfl rfl)
theorem dX0_drops_6 : decode cX0_drops 6 = .ok (.invokevirtual 455, 3) := dk_182 1 199 (dk_at dksX0_drops_0 6 rfl rfl)
theorem dX0_drops_9 : decode cX0_drops 9 = .ok (.ireturn, 1) := dk_172 (dk_at dksX0_drops_0 9 rfl rfl)
abbrev cX0_faults : ByteArray := prog_1_method_71_code
def yX0_faults : MethodName := ⟨RX0, "faults", "()I"⟩
def dkwX0_faults_0 : List UInt8 := [42, 16, 7, 3, 3, 3, 182, 1, 199, 172]
abbrev dktX0_faults_0 : List UInt8 := dkwX0_faults_0 ++ []
theorem dksX0_faults_0 : cX0_faults.data.toList.drop 0 = dktX0_faults_0 := by decide +kernel
theorem dX0_faults_0 : decode cX0_faults 0 = .ok (.aload_n 0, 1) := dk_42 (dk_at dksX0_faults_0 0 rfl rfl)
theorem dX0_faults_1 : decode cX0_faults 1 = .ok (.bipush 7, 2) := dk_16 7 (dk_at dksX0_faults_0 1 rfl rfl)
theorem dX0_faults_3 : decode cX0_faults 3 = .ok (.iconst 0, 1) := dk_3 (dk_at dksX0_faults_0 3 rfl rfl)
theorem dX0_faults_4 : decode cX0_faults 4 = .ok (.iconst 0, 1) := dk_3 (dk_at dksX0_faults_0 4 rfl rfl)
theorem dX0_faults_5 : decode cX0_faults 5 = .ok (.iconst 0, 1) := dk_3 (dk_at dksX0_faults_0 5 rfl rfl)
theorem dX0_faults_6 : decode cX0_faults 6 = .ok (.invokevirtual 455, 3) := dk_182 1 199 (dk_at dksX0_faults_0 6 rfl rfl)
theorem dX0_faults_9 : decode cX0_faults 9 = .ok (.ireturn, 1) := dk_172 (dk_at dksX0_faults_0 9 rfl rfl)
abbrev cX0_fault : ByteArray := prog_1_method_72_code
def yX0_fault : MethodName := ⟨RX0, "fault", "(II)I"⟩
def dkwX0_fault_0 : List UInt8 := [42, 16, 8, 27, 28, 3, 182, 1, 199, 172]
abbrev dktX0_fault_0 : List UInt8 := dkwX0_fault_0 ++ []
theorem dksX0_fault_0 : cX0_fault.data.toList.drop 0 = dktX0_fault_0 := by decide +kernel
theorem dX0_fault_0 : decode cX0_fault 0 = .ok (.aload_n 0, 1) := dk_42 (dk_at dksX0_fault_0 0 rfl rfl)
theorem dX0_fault_1 : decode cX0_fault 1 = .ok (.bipush 8, 2) := dk_16 8 (dk_at dksX0_fault_0 1 rfl rfl)
theorem dX0_fault_3 : decode cX0_fault 3 = .ok (.iload_n 1, 1) := dk_27 (dk_at dksX0_fault_0 3 rfl rfl)
theorem dX0_fault_4 : decode cX0_fault 4 = .ok (.iload_n 2, 1) := dk_28 (dk_at dksX0_fault_0 4 rfl rfl)
theorem dX0_fault_5 : decode cX0_fault 5 = .ok (.iconst 0, 1) := dk_3 (dk_at dksX0_fault_0 5 rfl rfl)
theorem dX0_fault_6 : decode cX0_fault 6 = .ok (.invokevirtual 455, 3) := dk_182 1 199 (dk_at dksX0_fault_0 6 rfl rfl)
theorem dX0_fault_9 : decode cX0_fault 9 = .ok (.ireturn, 1) := dk_172 (dk_at dksX0_fault_0 9 rfl rfl)
abbrev cX0_coded : ByteArray := prog_1_method_73_code
def yX0_coded : MethodName := ⟨RX0, "coded", "(I)I"⟩
def dkwX0_coded_0 : List UInt8 := [42, 16, 9, 27, 3, 3, 182, 1, 199, 172]
abbrev dktX0_coded_0 : List UInt8 := dkwX0_coded_0 ++ []
theorem dksX0_coded_0 : cX0_coded.data.toList.drop 0 = dktX0_coded_0 := by decide +kernel
theorem dX0_coded_0 : decode cX0_coded 0 = .ok (.aload_n 0, 1) := dk_42 (dk_at dksX0_coded_0 0 rfl rfl)
theorem dX0_coded_1 : decode cX0_coded 1 = .ok (.bipush 9, 2) := dk_16 9 (dk_at dksX0_coded_0 1 rfl rfl)
theorem dX0_coded_3 : decode cX0_coded 3 = .ok (.iload_n 1, 1) := dk_27 (dk_at dksX0_coded_0 3 rfl rfl)
theorem dX0_coded_4 : decode cX0_coded 4 = .ok (.iconst 0, 1) := dk_3 (dk_at dksX0_coded_0 4 rfl rfl)
theorem dX0_coded_5 : decode cX0_coded 5 = .ok (.iconst 0, 1) := dk_3 (dk_at dksX0_coded_0 5 rfl rfl)
theorem dX0_coded_6 : decode cX0_coded 6 = .ok (.invokevirtual 455, 3) := dk_182 1 199 (dk_at dksX0_coded_0 6 rfl rfl)
theorem dX0_coded_9 : decode cX0_coded 9 = .ok (.ireturn, 1) := dk_172 (dk_at dksX0_coded_0 9 rfl rfl)
abbrev cX0_below : ByteArray := prog_1_method_74_code
def yX0_below : MethodName := ⟨RX0, "below", "(I)I"⟩
def dkwX0_below_0 : List UInt8 := [42, 16, 10, 27, 3, 3, 182, 1, 199, 172]
abbrev dktX0_below_0 : List UInt8 := dkwX0_below_0 ++ []
theorem dksX0_below_0 : cX0_below.data.toList.drop 0 = dktX0_below_0 := by decide +kernel
theorem dX0_below_0 : decode cX0_below 0 = .ok (.aload_n 0, 1) := dk_42 (dk_at dksX0_below_0 0 rfl rfl)
theorem dX0_below_1 : decode cX0_below 1 = .ok (.bipush 10, 2) := dk_16 10 (dk_at dksX0_below_0 1 rfl rfl)
theorem dX0_below_3 : decode cX0_below 3 = .ok (.iload_n 1, 1) := dk_27 (dk_at dksX0_below_0 3 rfl rfl)
theorem dX0_below_4 : decode cX0_below 4 = .ok (.iconst 0, 1) := dk_3 (dk_at dksX0_below_0 4 rfl rfl)
theorem dX0_below_5 : decode cX0_below 5 = .ok (.iconst 0, 1) := dk_3 (dk_at dksX0_below_0 5 rfl rfl)
theorem dX0_below_6 : decode cX0_below 6 = .ok (.invokevirtual 455, 3) := dk_182 1 199 (dk_at dksX0_below_0 6 rfl rfl)
theorem dX0_below_9 : decode cX0_below 9 = .ok (.ireturn, 1) := dk_172 (dk_at dksX0_below_0 9 rfl rfl)
abbrev cX0_waits : ByteArray := prog_1_method_75_code
def yX0_waits : MethodName := ⟨RX0, "waits", "()I"⟩
def dkwX0_waits_0 : List UInt8 := [42, 16, 11, 3, 3, 3, 182, 1, 199, 172]
abbrev dktX0_waits_0 : List UInt8 := dkwX0_waits_0 ++ []
theorem dksX0_waits_0 : cX0_waits.data.toList.drop 0 = dktX0_waits_0 := by decide +kernel
theorem dX0_waits_0 : decode cX0_waits 0 = .ok (.aload_n 0, 1) := dk_42 (dk_at dksX0_waits_0 0 rfl rfl)
theorem dX0_waits_1 : decode cX0_waits 1 = .ok (.bipush 11, 2) := dk_16 11 (dk_at dksX0_waits_0 1 rfl rfl)
theorem dX0_waits_3 : decode cX0_waits 3 = .ok (.iconst 0, 1) := dk_3 (dk_at dksX0_waits_0 3 rfl rfl)
theorem dX0_waits_4 : decode cX0_waits 4 = .ok (.iconst 0, 1) := dk_3 (dk_at dksX0_waits_0 4 rfl rfl)
theorem dX0_waits_5 : decode cX0_waits 5 = .ok (.iconst 0, 1) := dk_3 (dk_at dksX0_waits_0 5 rfl rfl)
theorem dX0_waits_6 : decode cX0_waits 6 = .ok (.invokevirtual 455, 3) := dk_182 1 199 (dk_at dksX0_waits_0 6 rfl rfl)
theorem dX0_waits_9 : decode cX0_waits 9 = .ok (.ireturn, 1) := dk_172 (dk_at dksX0_waits_0 9 rfl rfl)
abbrev cX0_first : ByteArray := prog_1_method_76_code
def yX0_first : MethodName := ⟨RX0, "first", "()I"⟩
def dkwX0_first_0 : List UInt8 := [42, 16, 12, 3, 3, 3, 182, 1, 199, 172]
abbrev dktX0_first_0 : List UInt8 := dkwX0_first_0 ++ []
theorem dksX0_first_0 : cX0_first.data.toList.drop 0 = dktX0_first_0 := by decide +kernel
theorem dX0_first_0 : decode cX0_first 0 = .ok (.aload_n 0, 1) := dk_42 (dk_at dksX0_first_0 0 rfl rfl)
theorem dX0_first_1 : decode cX0_first 1 = .ok (.bipush 12, 2) := dk_16 12 (dk_at dksX0_first_0 1 rfl rfl)
theorem dX0_first_3 : decode cX0_first 3 = .ok (.iconst 0, 1) := dk_3 (dk_at dksX0_first_0 3 rfl rfl)
theorem dX0_first_4 : decode cX0_first 4 = .ok (.iconst 0, 1) := dk_3 (dk_at dksX0_first_0 4 rfl rfl)
theorem dX0_first_5 : decode cX0_first 5 = .ok (.iconst 0, 1) := dk_3 (dk_at dksX0_first_0 5 rfl rfl)
theorem dX0_first_6 : decode cX0_first 6 = .ok (.invokevirtual 455, 3) := dk_182 1 199 (dk_at dksX0_first_0 6 rfl rfl)
theorem dX0_first_9 : decode cX0_first 9 = .ok (.ireturn, 1) := dk_172 (dk_at dksX0_first_0 9 rfl rfl)
abbrev cX0_limited : ByteArray := prog_1_method_77_code
def yX0_limited : MethodName := ⟨RX0, "limited", "(II)I"⟩
def dkwX0_limited_0 : List UInt8 := [42, 16, 13, 27, 28, 3, 182, 1, 199, 172]
abbrev dktX0_limited_0 : List UInt8 := dkwX0_limited_0 ++ []
theorem dksX0_limited_0 : cX0_limited.data.toList.drop 0 = dktX0_limited_0 := by decide +kernel
theorem dX0_limited_0 : decode cX0_limited 0 = .ok (.aload_n 0, 1) := dk_42 (dk_at dksX0_limited_0 0 rfl rfl)
theorem dX0_limited_1 : decode cX0_limited 1 = .ok (.bipush 13, 2) := dk_16 13 (dk_at dksX0_limited_0 1 rfl rfl)
theorem dX0_limited_3 : decode cX0_limited 3 = .ok (.iload_n 1, 1) := dk_27 (dk_at dksX0_limited_0 3 rfl rfl)
theorem dX0_limited_4 : decode cX0_limited 4 = .ok (.iload_n 2, 1) := dk_28 (dk_at dksX0_limited_0 4 rfl rfl)
theorem dX0_limited_5 : decode cX0_limited 5 = .ok (.iconst 0, 1) := dk_3 (dk_at dksX0_limited_0 5 rfl rfl)
theorem dX0_limited_6 : decode cX0_limited 6 = .ok (.invokevirtual 455, 3) := dk_182 1 199 (dk_at dksX0_limited_0 6 rfl rfl)
theorem dX0_limited_9 : decode cX0_limited 9 = .ok (.ireturn, 1) := dk_172 (dk_at dksX0_limited_0 9 rfl rfl)
abbrev cX0_total : ByteArray := prog_1_method_78_code
def yX0_total : MethodName := ⟨RX0, "total", "()I"⟩
def dkwX0_total_0 : List UInt8 := [42, 16, 14, 3, 3, 3, 182, 1, 199, 172]
abbrev dktX0_total_0 : List UInt8 := dkwX0_total_0 ++ []
theorem dksX0_total_0 : cX0_total.data.toList.drop 0 = dktX0_total_0 := by decide +kernel
theorem dX0_total_0 : decode cX0_total 0 = .ok (.aload_n 0, 1) := dk_42 (dk_at dksX0_total_0 0 rfl rfl)
theorem dX0_total_1 : decode cX0_total 1 = .ok (.bipush 14, 2) := dk_16 14 (dk_at dksX0_total_0 1 rfl rfl)
theorem dX0_total_3 : decode cX0_total 3 = .ok (.iconst 0, 1) := dk_3 (dk_at dksX0_total_0 3 rfl rfl)
theorem dX0_total_4 : decode cX0_total 4 = .ok (.iconst 0, 1) := dk_3 (dk_at dksX0_total_0 4 rfl rfl)
theorem dX0_total_5 : decode cX0_total 5 = .ok (.iconst 0, 1) := dk_3 (dk_at dksX0_total_0 5 rfl rfl)
theorem dX0_total_6 : decode cX0_total 6 = .ok (.invokevirtual 455, 3) := dk_182 1 199 (dk_at dksX0_total_0 6 rfl rfl)
theorem dX0_total_9 : decode cX0_total 9 = .ok (.ireturn, 1) := dk_172 (dk_at dksX0_total_0 9 rfl rfl)
abbrev cX0_same : ByteArray := prog_1_method_79_code
def yX0_same : MethodName := ⟨RX0, "same", "(II)I"⟩
def dkwX0_same_0 : List UInt8 := [42, 16, 15, 27, 28, 3, 182, 1, 199, 172]
abbrev dktX0_same_0 : List UInt8 := dkwX0_same_0 ++ []
theorem dksX0_same_0 : cX0_same.data.toList.drop 0 = dktX0_same_0 := by decide +kernel
theorem dX0_same_0 : decode cX0_same 0 = .ok (.aload_n 0, 1) := dk_42 (dk_at dksX0_same_0 0 rfl rfl)
theorem dX0_same_1 : decode cX0_same 1 = .ok (.bipush 15, 2) := dk_16 15 (dk_at dksX0_same_0 1 rfl rfl)
theorem dX0_same_3 : decode cX0_same 3 = .ok (.iload_n 1, 1) := dk_27 (dk_at dksX0_same_0 3 rfl rfl)
theorem dX0_same_4 : decode cX0_same 4 = .ok (.iload_n 2, 1) := dk_28 (dk_at dksX0_same_0 4 rfl rfl)
theorem dX0_same_5 : decode cX0_same 5 = .ok (.iconst 0, 1) := dk_3 (dk_at dksX0_same_0 5 rfl rfl)
theorem dX0_same_6 : decode cX0_same 6 = .ok (.invokevirtual 455, 3) := dk_182 1 199 (dk_at dksX0_same_0 6 rfl rfl)
theorem dX0_same_9 : decode cX0_same 9 = .ok (.ireturn, 1) := dk_172 (dk_at dksX0_same_0 9 rfl rfl)
abbrev cX0_different : ByteArray := prog_1_method_80_code
def yX0_different : MethodName := ⟨RX0, "different", "()I"⟩
def dkwX0_different_0 : List UInt8 := [42, 16, 16, 3, 3, 3, 182, 1, 199, 172]
abbrev dktX0_different_0 : List UInt8 := dkwX0_different_0 ++ []
theorem dksX0_different_0 : cX0_different.data.toList.drop 0 = dktX0_different_0 := by decide +kernel
theorem dX0_different_0 : decode cX0_different 0 = .ok (.aload_n 0, 1) := dk_42 (dk_at dksX0_different_0 0 rfl rfl)
theorem dX0_different_1 : decode cX0_different 1 = .ok (.bipush 16, 2) := dk_16 16 (dk_at dksX0_different_0 1 rfl rfl)
theorem dX0_different_3 : decode cX0_different 3 = .ok (.iconst 0, 1) := dk_3 (dk_at dksX0_different_0 3 rfl rfl)
theorem dX0_different_4 : decode cX0_different 4 = .ok (.iconst 0, 1) := dk_3 (dk_at dksX0_different_0 4 rfl rfl)
theorem dX0_different_5 : decode cX0_different 5 = .ok (.iconst 0, 1) := dk_3 (dk_at dksX0_different_0 5 rfl rfl)
theorem dX0_different_6 : decode cX0_different 6 = .ok (.invokevirtual 455, 3) := dk_182 1 199 (dk_at dksX0_different_0 6 rfl rfl)
theorem dX0_different_9 : decode cX0_different 9 = .ok (.ireturn, 1) := dk_172 (dk_at dksX0_different_0 9 rfl rfl)
abbrev cX0_often : ByteArray := prog_1_method_81_code
def yX0_often : MethodName := ⟨RX0, "often", "(I)I"⟩
def dkwX0_often_0 : List UInt8 := [42, 16, 17, 27, 3, 3, 182, 1, 199, 172]
abbrev dktX0_often_0 : List UInt8 := dkwX0_often_0 ++ []
theorem dksX0_often_0 : cX0_often.data.toList.drop 0 = dktX0_often_0 := by decide +kernel
theorem dX0_often_0 : decode cX0_often 0 = .ok (.aload_n 0, 1) := dk_42 (dk_at dksX0_often_0 0 rfl rfl)
theorem dX0_often_1 : decode cX0_often 1 = .ok (.bipush 17, 2) := dk_16 17 (dk_at dksX0_often_0 1 rfl rfl)
theorem dX0_often_3 : decode cX0_often 3 = .ok (.iload_n 1, 1) := dk_27 (dk_at dksX0_often_0 3 rfl rfl)
theorem dX0_often_4 : decode cX0_often 4 = .ok (.iconst 0, 1) := dk_3 (dk_at dksX0_often_0 4 rfl rfl)
theorem dX0_often_5 : decode cX0_often 5 = .ok (.iconst 0, 1) := dk_3 (dk_at dksX0_often_0 5 rfl rfl)
theorem dX0_often_6 : decode cX0_often 6 = .ok (.invokevirtual 455, 3) := dk_182 1 199 (dk_at dksX0_often_0 6 rfl rfl)
theorem dX0_often_9 : decode cX0_often 9 = .ok (.ireturn, 1) := dk_172 (dk_at dksX0_often_0 9 rfl rfl)
abbrev cX0_without : ByteArray := prog_1_method_82_code
def yX0_without : MethodName := ⟨RX0, "without", "(I)I"⟩
def dkwX0_without_0 : List UInt8 := [42, 16, 18, 27, 3, 3, 182, 1, 199, 172]
abbrev dktX0_without_0 : List UInt8 := dkwX0_without_0 ++ []
theorem dksX0_without_0 : cX0_without.data.toList.drop 0 = dktX0_without_0 := by decide +kernel
theorem dX0_without_0 : decode cX0_without 0 = .ok (.aload_n 0, 1) := dk_42 (dk_at dksX0_without_0 0 rfl rfl)
theorem dX0_without_1 : decode cX0_without 1 = .ok (.bipush 18, 2) := dk_16 18 (dk_at dksX0_without_0 1 rfl rfl)
theorem dX0_without_3 : decode cX0_without 3 = .ok (.iload_n 1, 1) := dk_27 (dk_at dksX0_without_0 3 rfl rfl)
theorem dX0_without_4 : decode cX0_without 4 = .ok (.iconst 0, 1) := dk_3 (dk_at dksX0_without_0 4 rfl rfl)
theorem dX0_without_5 : decode cX0_without 5 = .ok (.iconst 0, 1) := dk_3 (dk_at dksX0_without_0 5 rfl rfl)
theorem dX0_without_6 : decode cX0_without 6 = .ok (.invokevirtual 455, 3) := dk_182 1 199 (dk_at dksX0_without_0 6 rfl rfl)
theorem dX0_without_9 : decode cX0_without 9 = .ok (.ireturn, 1) := dk_172 (dk_at dksX0_without_0 9 rfl rfl)
abbrev cX0_mend : ByteArray := prog_1_method_83_code
def yX0_mend : MethodName := ⟨RX0, "mend", "(I)I"⟩
def dkwX0_mend_0 : List UInt8 := [42, 16, 19, 27, 3, 3, 182, 1, 199, 172]
abbrev dktX0_mend_0 : List UInt8 := dkwX0_mend_0 ++ []
theorem dksX0_mend_0 : cX0_mend.data.toList.drop 0 = dktX0_mend_0 := by decide +kernel
theorem dX0_mend_0 : decode cX0_mend 0 = .ok (.aload_n 0, 1) := dk_42 (dk_at dksX0_mend_0 0 rfl rfl)
theorem dX0_mend_1 : decode cX0_mend 1 = .ok (.bipush 19, 2) := dk_16 19 (dk_at dksX0_mend_0 1 rfl rfl)
theorem dX0_mend_3 : decode cX0_mend 3 = .ok (.iload_n 1, 1) := dk_27 (dk_at dksX0_mend_0 3 rfl rfl)
theorem dX0_mend_4 : decode cX0_mend 4 = .ok (.iconst 0, 1) := dk_3 (dk_at dksX0_mend_0 4 rfl rfl)
theorem dX0_mend_5 : decode cX0_mend 5 = .ok (.iconst 0, 1) := dk_3 (dk_at dksX0_mend_0 5 rfl rfl)
theorem dX0_mend_6 : decode cX0_mend 6 = .ok (.invokevirtual 455, 3) := dk_182 1 199 (dk_at dksX0_mend_0 6 rfl rfl)
theorem dX0_mend_9 : decode cX0_mend 9 = .ok (.ireturn, 1) := dk_172 (dk_at dksX0_mend_0 9 rfl rfl)
abbrev cX0_range : ByteArray := prog_1_method_84_code
def yX0_range : MethodName := ⟨RX0, "range", "(II)I"⟩
def dkwX0_range_0 : List UInt8 := [42, 16, 20, 27, 28, 3, 182, 1, 199, 172]
abbrev dktX0_range_0 : List UInt8 := dkwX0_range_0 ++ []
theorem dksX0_range_0 : cX0_range.data.toList.drop 0 = dktX0_range_0 := by decide +kernel
theorem dX0_range_0 : decode cX0_range 0 = .ok (.aload_n 0, 1) := dk_42 (dk_at dksX0_range_0 0 rfl rfl)
theorem dX0_range_1 : decode cX0_range 1 = .ok (.bipush 20, 2) := dk_16 20 (dk_at dksX0_range_0 1 rfl rfl)
theorem dX0_range_3 : decode cX0_range 3 = .ok (.iload_n 1, 1) := dk_27 (dk_at dksX0_range_0 3 rfl rfl)
theorem dX0_range_4 : decode cX0_range 4 = .ok (.iload_n 2, 1) := dk_28 (dk_at dksX0_range_0 4 rfl rfl)
theorem dX0_range_5 : decode cX0_range 5 = .ok (.iconst 0, 1) := dk_3 (dk_at dksX0_range_0 5 rfl rfl)
theorem dX0_range_6 : decode cX0_range 6 = .ok (.invokevirtual 455, 3) := dk_182 1 199 (dk_at dksX0_range_0 6 rfl rfl)
theorem dX0_range_9 : decode cX0_range 9 = .ok (.ireturn, 1) := dk_172 (dk_at dksX0_range_0 9 rfl rfl)
abbrev cX0_loss : ByteArray := prog_1_method_85_code
def yX0_loss : MethodName := ⟨RX0, "loss", "(II)J"⟩
def dkwX0_loss_0 : List UInt8 := [42, 27, 28, 182, 1, 202, 173]
abbrev dktX0_loss_0 : List UInt8 := dkwX0_loss_0 ++ []
theorem dksX0_loss_0 : cX0_loss.data.toList.drop 0 = dktX0_loss_0 := by decide +kernel
theorem dX0_loss_0 : decode cX0_loss 0 = .ok (.aload_n 0, 1) := dk_42 (dk_at dksX0_loss_0 0 rfl rfl)
theorem dX0_loss_1 : decode cX0_loss 1 = .ok (.iload_n 1, 1) := dk_27 (dk_at dksX0_loss_0 1 rfl rfl)
theorem dX0_loss_2 : decode cX0_loss 2 = .ok (.iload_n 2, 1) := dk_28 (dk_at dksX0_loss_0 2 rfl rfl)
theorem dX0_loss_3 : decode cX0_loss 3 = .ok (.invokevirtual 458, 3) := dk_182 1 202 (dk_at dksX0_loss_0 3 rfl rfl)
theorem dX0_loss_6 : decode cX0_loss 6 = .ok (.lreturn, 1) := dk_173 (dk_at dksX0_loss_0 6 rfl rfl)
abbrev cX0_lossTold : ByteArray := prog_1_method_60_code
def yX0_lossTold : MethodName := ⟨RX0, "lossTold", "(II)J"⟩
def dkwX0_lossTold_1 : List UInt8 := [45, 182, 1, 192, 173]
abbrev dktX0_lossTold_1 : List UInt8 := dkwX0_lossTold_1 ++ []
def dkwX0_lossTold_0 : List UInt8 := [27, 133, 20, 1, 186, 20, 1, 73, 184, 0, 184, 28, 184, 0, 226, 42, 27, 28, 182, 1, 188, 173, 78, 42]
abbrev dktX0_lossTold_0 : List UInt8 := dkwX0_lossTold_0 ++ dktX0_lossTold_1
theorem dksX0_lossTold_0 : cX0_lossTold.data.toList.drop 0 = dktX0_lossTold_0 := by decide +kernel
theorem dksX0_lossTold_1 : cX0_lossTold.data.toList.drop 24 = dktX0_lossTold_1 := dk_seg dksX0_lossTold_0 24 rfl rfl
theorem dX0_lossTold_0 : decode cX0_lossTold 0 = .ok (.iload_n 1, 1) := dk_27 (dk_at dksX0_lossTold_0 0 rfl rfl)
theorem dX0_lossTold_1 : decode cX0_lossTold 1 = .ok (.i2l, 1) := dk_133 (dk_at dksX0_lossTold_0 1 rfl rfl)
theorem dX0_lossTold_2 : decode cX0_lossTold 2 = .ok (.ldc2_w 442, 3) := dk_20 1 186 (dk_at dksX0_lossTold_0 2 rfl rfl)
theorem dX0_lossTold_5 : decode cX0_lossTold 5 = .ok (.ldc2_w 329, 3) := dk_20 1 73 (dk_at dksX0_lossTold_0 5 rfl rfl)
theorem dX0_lossTold_8 : decode cX0_lossTold 8 = .ok (.invokestatic 184, 3) := dk_184 0 184 (dk_at dksX0_lossTold_0 8 rfl rfl)
theorem dX0_lossTold_11 : decode cX0_lossTold 11 = .ok (.iload_n 2, 1) := dk_28 (dk_at dksX0_lossTold_0 11 rfl rfl)
theorem dX0_lossTold_12 : decode cX0_lossTold 12 = .ok (.invokestatic 226, 3) := dk_184 0 226 (dk_at dksX0_lossTold_0 12 rfl rfl)
theorem dX0_lossTold_15 : decode cX0_lossTold 15 = .ok (.aload_n 0, 1) := dk_42 (dk_at dksX0_lossTold_0 15 rfl rfl)
theorem dX0_lossTold_16 : decode cX0_lossTold 16 = .ok (.iload_n 1, 1) := dk_27 (dk_at dksX0_lossTold_0 16 rfl rfl)
theorem dX0_lossTold_17 : decode cX0_lossTold 17 = .ok (.iload_n 2, 1) := dk_28 (dk_at dksX0_lossTold_0 17 rfl rfl)
theorem dX0_lossTold_18 : decode cX0_lossTold 18 = .ok (.invokevirtual 444, 3) := dk_182 1 188 (dk_at dksX0_lossTold_0 18 rfl rfl)
theorem dX0_lossTold_21 : decode cX0_lossTold 21 = .ok (.lreturn, 1) := dk_173 (dk_at dksX0_lossTold_0 21 rfl rfl)
theorem dX0_lossTold_22 : decode cX0_lossTold 22 = .ok (.astore_n 3, 1) := dk_78 (dk_at dksX0_lossTold_0 22 rfl rfl)
theorem dX0_lossTold_23 : decode cX0_lossTold 23 = .ok (.aload_n 0, 1) := dk_42 (dk_at dksX0_lossTold_0 23 rfl rfl)
theorem dX0_lossTold_24 : decode cX0_lossTold 24 = .ok (.aload_n 3, 1) := dk_45 (dk_at dksX0_lossTold_1 0 rfl rfl)
theorem dX0_lossTold_25 : decode cX0_lossTold 25 = .ok (.invokevirtual 448, 3) := dk_182 1 192 (dk_at dksX0_lossTold_1 1 rfl rfl)
theorem dX0_lossTold_28 : decode cX0_lossTold 28 = .ok (.lreturn, 1) := dk_173 (dk_at dksX0_lossTold_1 4 rfl rfl)
abbrev cX0_lossPart : ByteArray := prog_1_method_39_code
def yX0_lossPart : MethodName := ⟨RX0, "lossPart", "(II)J"⟩
def dkwX0_lossPart_13 : List UInt8 := [173]
abbrev dktX0_lossPart_13 : List UInt8 := dkwX0_lossPart_13 ++ []
def dkwX0_lossPart_12 : List UInt8 := [182, 0, 218, 87, 132, 12, 1, 167, 255, 202, 132, 9, 1, 167, 255, 76, 22, 5, 22, 7, 28, 184, 1, 41]
abbrev dktX0_lossPart_12 : List UInt8 := dkwX0_lossPart_12 ++ dktX0_lossPart_13
def dkwX0_lossPart_11 : List UInt8 := [182, 0, 152, 192, 0, 155, 180, 0, 157, 25, 4, 21, 12, 182, 0, 152, 192, 0, 155, 180, 0, 160]
abbrev dktX0_lossPart_11 : List UInt8 := dkwX0_lossPart_11 ++ dktX0_lossPart_12
def dkwX0_lossPart_10 : List UInt8 := [25, 4, 180, 0, 149, 162, 0, 50, 21, 9, 21, 12, 184, 1, 33, 153, 0, 34, 42, 25, 4, 21, 12]
abbrev dktX0_lossPart_10 : List UInt8 := dkwX0_lossPart_10 ++ dktX0_lossPart_11
def dkwX0_lossPart_9 : List UInt8 := [182, 0, 192, 182, 1, 37, 153, 0, 8, 22, 10, 167, 0, 4, 9, 97, 55, 5, 3, 54, 12, 21, 12]
abbrev dktX0_lossPart_9 : List UInt8 := dkwX0_lossPart_9 ++ dktX0_lossPart_10
def dkwX0_lossPart_8 : List UInt8 := [42, 180, 0, 96, 182, 0, 218, 87, 132, 12, 1, 167, 255, 188, 22, 5, 42, 180, 0, 73, 42, 180, 0, 66]
abbrev dktX0_lossPart_8 : List UInt8 := dkwX0_lossPart_8 ++ dktX0_lossPart_9
def dkwX0_lossPart_7 : List UInt8 := [21, 9, 21, 12, 184, 1, 33, 153, 0, 25, 42, 25, 4, 21, 12, 182, 0, 152, 192, 0, 155, 180, 0, 157]
abbrev dktX0_lossPart_7 : List UInt8 := dkwX0_lossPart_7 ++ dktX0_lossPart_8
def dkwX0_lossPart_6 : List UInt8 := [22, 10, 21, 9, 21, 12, 184, 1, 33, 153, 0, 7, 10, 167, 0, 7, 27, 4, 100, 133, 105, 55, 10]
abbrev dktX0_lossPart_6 : List UInt8 := dkwX0_lossPart_6 ++ dktX0_lossPart_7
def dkwX0_lossPart_5 : List UInt8 := [180, 0, 149, 120, 162, 0, 174, 10, 55, 10, 3, 54, 12, 21, 12, 25, 4, 180, 0, 149, 162, 0, 64]
abbrev dktX0_lossPart_5 : List UInt8 := dkwX0_lossPart_5 ++ dktX0_lossPart_6
def dkwX0_lossPart_4 : List UInt8 := [162, 0, 16, 22, 7, 27, 133, 105, 55, 7, 132, 9, 1, 167, 255, 236, 3, 54, 9, 21, 9, 4, 25, 4]
abbrev dktX0_lossPart_4 : List UInt8 := dkwX0_lossPart_4 ++ dktX0_lossPart_5
def dkwX0_lossPart_3 : List UInt8 := [132, 5, 1, 167, 255, 202, 9, 55, 5, 10, 55, 7, 3, 54, 9, 21, 9, 25, 4, 180, 0, 149]
abbrev dktX0_lossPart_3 : List UInt8 := dkwX0_lossPart_3 ++ dktX0_lossPart_4
def dkwX0_lossPart_2 : List UInt8 := [180, 0, 160, 193, 0, 48, 153, 0, 17, 25, 4, 45, 21, 5, 182, 0, 152, 192, 0, 155, 182, 1, 30]
abbrev dktX0_lossPart_2 : List UInt8 := dkwX0_lossPart_2 ++ dktX0_lossPart_3
def dkwX0_lossPart_1 : List UInt8 := [162, 0, 51, 25, 4, 180, 0, 149, 16, 6, 162, 0, 35, 45, 21, 5, 182, 0, 152, 192, 0, 155]
abbrev dktX0_lossPart_1 : List UInt8 := dkwX0_lossPart_1 ++ dktX0_lossPart_2
def dkwX0_lossPart_0 : List UInt8 := [42, 182, 0, 145, 78, 187, 0, 138, 89, 183, 0, 140, 58, 4, 3, 54, 5, 21, 5, 45, 180, 0, 149]
abbrev dktX0_lossPart_0 : List UInt8 := dkwX0_lossPart_0 ++ dktX0_lossPart_1
theorem dksX0_lossPart_0 : cX0_lossPart.data.toList.drop 0 = dktX0_lossPart_0 := by decide +kernel
theorem dksX0_lossPart_1 : cX0_lossPart.data.toList.drop 23 = dktX0_lossPart_1 := dk_seg dksX0_lossPart_0 23 rfl rfl
theorem dksX0_lossPart_2 : cX0_lossPart.data.toList.drop 45 = dktX0_lossPart_2 := dk_seg dksX0_lossPart_1 22 rfl rfl
theorem dksX0_lossPart_3 : cX0_lossPart.data.toList.drop 68 = dktX0_lossPart_3 := dk_seg dksX0_lossPart_2 23 rfl rfl
theorem dksX0_lossPart_4 : cX0_lossPart.data.toList.drop 90 = dktX0_lossPart_4 := dk_seg dksX0_lossPart_3 22 rfl rfl
theorem dksX0_lossPart_5 : cX0_lossPart.data.toList.drop 114 = dktX0_lossPart_5 := dk_seg dksX0_lossPart_4 24 rfl rfl
theorem dksX0_lossPart_6 : cX0_lossPart.data.toList.drop 137 = dktX0_lossPart_6 := dk_seg dksX0_lossPart_5 23 rfl rfl
theorem dksX0_lossPart_7 : cX0_lossPart.data.toList.drop 160 = dktX0_lossPart_7 := dk_seg dksX0_lossPart_6 23 rfl rfl
theorem dksX0_lossPart_8 : cX0_lossPart.data.toList.drop 184 = dktX0_lossPart_8 := dk_seg dksX0_lossPart_7 24 rfl rfl
theorem dksX0_lossPart_9 : cX0_lossPart.data.toList.drop 208 = dktX0_lossPart_9 := dk_seg dksX0_lossPart_8 24 rfl rfl
theorem dksX0_lossPart_10 : cX0_lossPart.data.toList.drop 231 = dktX0_lossPart_10 := dk_seg dksX0_lossPart_9 23 rfl rfl
theorem dksX0_lossPart_11 : cX0_lossPart.data.toList.drop 254 = dktX0_lossPart_11 := dk_seg dksX0_lossPart_10 23 rfl rfl
theorem dksX0_lossPart_12 : cX0_lossPart.data.toList.drop 276 = dktX0_lossPart_12 := dk_seg dksX0_lossPart_11 22 rfl rfl
theorem dksX0_lossPart_13 : cX0_lossPart.data.toList.drop 300 = dktX0_lossPart_13 := dk_seg dksX0_lossPart_12 24 rfl rfl
theorem dX0_lossPart_0 : decode cX0_lossPart 0 = .ok (.aload_n 0, 1) := dk_42 (dk_at dksX0_lossPart_0 0 rfl rfl)
theorem dX0_lossPart_1 : decode cX0_lossPart 1 = .ok (.invokevirtual 145, 3) := dk_182 0 145 (dk_at dksX0_lossPart_0 1 rfl rfl)
theorem dX0_lossPart_4 : decode cX0_lossPart 4 = .ok (.astore_n 3, 1) := dk_78 (dk_at dksX0_lossPart_0 4 rfl rfl)
theorem dX0_lossPart_5 : decode cX0_lossPart 5 = .ok (.new 138, 3) := dk_187 0 138 (dk_at dksX0_lossPart_0 5 rfl rfl)
theorem dX0_lossPart_8 : decode cX0_lossPart 8 = .ok (.dup, 1) := dk_89 (dk_at dksX0_lossPart_0 8 rfl rfl)
theorem dX0_lossPart_9 : decode cX0_lossPart 9 = .ok (.invokespecial 140, 3) := dk_183 0 140 (dk_at dksX0_lossPart_0 9 rfl rfl)
theorem dX0_lossPart_12 : decode cX0_lossPart 12 = .ok (.astore 4, 2) := dk_58 4 (dk_at dksX0_lossPart_0 12 rfl rfl)
theorem dX0_lossPart_14 : decode cX0_lossPart 14 = .ok (.iconst 0, 1) := dk_3 (dk_at dksX0_lossPart_0 14 rfl rfl)
theorem dX0_lossPart_15 : decode cX0_lossPart 15 = .ok (.istore 5, 2) := dk_54 5 (dk_at dksX0_lossPart_0 15 rfl rfl)
theorem dX0_lossPart_17 : decode cX0_lossPart 17 = .ok (.iload 5, 2) := dk_21 5 (dk_at dksX0_lossPart_0 17 rfl rfl)
theorem dX0_lossPart_19 : decode cX0_lossPart 19 = .ok (.aload_n 3, 1) := dk_45 (dk_at dksX0_lossPart_0 19 rfl rfl)
theorem dX0_lossPart_20 : decode cX0_lossPart 20 = .ok (.getfield 149, 3) := dk_180 0 149 (dk_at dksX0_lossPart_0 20 rfl rfl)
theorem dX0_lossPart_23 : decode cX0_lossPart 23 = .ok (.if_icmp .ge 51, 3) := dk_162 0 51 (dk_at dksX0_lossPart_1 0 rfl rfl)
theorem dX0_lossPart_26 : decode cX0_lossPart 26 = .ok (.aload 4, 2) := dk_25 4 (dk_at dksX0_lossPart_1 3 rfl rfl)
theorem dX0_lossPart_28 : decode cX0_lossPart 28 = .ok (.getfield 149, 3) := dk_180 0 149 (dk_at dksX0_lossPart_1 5 rfl rfl)
theorem dX0_lossPart_31 : decode cX0_lossPart 31 = .ok (.bipush 6, 2) := dk_16 6 (dk_at dksX0_lossPart_1 8 rfl rfl)
theorem dX0_lossPart_33 : decode cX0_lossPart 33 = .ok (.if_icmp .ge 35, 3) := dk_162 0 35 (dk_at dksX0_lossPart_1 10 rfl rfl)
theorem dX0_lossPart_36 : decode cX0_lossPart 36 = .ok (.aload_n 3, 1) := dk_45 (dk_at dksX0_lossPart_1 13 rfl rfl)
theorem dX0_lossPart_37 : decode cX0_lossPart 37 = .ok (.iload 5, 2) := dk_21 5 (dk_at dksX0_lossPart_1 14 rfl rfl)
theorem dX0_lossPart_39 : decode cX0_lossPart 39 = .ok (.invokevirtual 152, 3) := dk_182 0 152 (dk_at dksX0_lossPart_1 16 rfl rfl)
theorem dX0_lossPart_42 : decode cX0_lossPart 42 = .ok (.checkcast 155, 3) := dk_192 0 155 (dk_at dksX0_lossPart_1 19 rfl rfl)
theorem dX0_lossPart_45 : decode cX0_lossPart 45 = .ok (.getfield 160, 3) := dk_180 0 160 (dk_at dksX0_lossPart_2 0 rfl rfl)
theorem dX0_lossPart_48 : decode cX0_lossPart 48 = .ok (.instanceof 48, 3) := dk_193 0 48 (dk_at dksX0_lossPart_2 3 rfl rfl)
theorem dX0_lossPart_51 : decode cX0_lossPart 51 = .ok (.ifCond .eq 17, 3) := dk_153 0 17 (dk_at dksX0_lossPart_2 6 rfl rfl)
theorem dX0_lossPart_54 : decode cX0_lossPart 54 = .ok (.aload 4, 2) := dk_25 4 (dk_at dksX0_lossPart_2 9 rfl rfl)
theorem dX0_lossPart_56 : decode cX0_lossPart 56 = .ok (.aload_n 3, 1) := dk_45 (dk_at dksX0_lossPart_2 11 rfl rfl)
theorem dX0_lossPart_57 : decode cX0_lossPart 57 = .ok (.iload 5, 2) := dk_21 5 (dk_at dksX0_lossPart_2 12 rfl rfl)
theorem dX0_lossPart_59 : decode cX0_lossPart 59 = .ok (.invokevirtual 152, 3) := dk_182 0 152 (dk_at dksX0_lossPart_2 14 rfl rfl)
theorem dX0_lossPart_62 : decode cX0_lossPart 62 = .ok (.checkcast 155, 3) := dk_192 0 155 (dk_at dksX0_lossPart_2 17 rfl rfl)
theorem dX0_lossPart_65 : decode cX0_lossPart 65 = .ok (.invokevirtual 286, 3) := dk_182 1 30 (dk_at dksX0_lossPart_2 20 rfl rfl)
theorem dX0_lossPart_68 : decode cX0_lossPart 68 = .ok (.iinc 5 1, 3) := dk_132 5 1 (dk_at dksX0_lossPart_3 0 rfl rfl)
theorem dX0_lossPart_71 : decode cX0_lossPart 71 = .ok (.goto (-54), 3) := dk_167 255 202 (dk_at dksX0_lossPart_3 3 rfl rfl)
theorem dX0_lossPart_74 : decode cX0_lossPart 74 = .ok (.lconst 0, 1) := dk_9 (dk_at dksX0_lossPart_3 6 rfl rfl)
theorem dX0_lossPart_75 : decode cX0_lossPart 75 = .ok (.lstore 5, 2) := dk_55 5 (dk_at dksX0_lossPart_3 7 rfl rfl)
theorem dX0_lossPart_77 : decode cX0_lossPart 77 = .ok (.lconst 1, 1) := dk_10 (dk_at dksX0_lossPart_3 9 rfl rfl)
theorem dX0_lossPart_78 : decode cX0_lossPart 78 = .ok (.lstore 7, 2) := dk_55 7 (dk_at dksX0_lossPart_3 10 rfl rfl)
theorem dX0_lossPart_80 : decode cX0_lossPart 80 = .ok (.iconst 0, 1) := dk_3 (dk_at dksX0_lossPart_3 12 rfl rfl)
theorem dX0_lossPart_81 : decode cX0_lossPart 81 = .ok (.istore 9, 2) := dk_54 9 (dk_at dksX0_lossPart_3 13 rfl rfl)
theorem dX0_lossPart_83 : decode cX0_lossPart 83 = .ok (.iload 9, 2) := dk_21 9 (dk_at dksX0_lossPart_3 15 rfl rfl)
theorem dX0_lossPart_85 : decode cX0_lossPart 85 = .ok (.aload 4, 2) := dk_25 4 (dk_at dksX0_lossPart_3 17 rfl rfl)
theorem dX0_lossPart_87 : decode cX0_lossPart 87 = .ok (.getfield 149, 3) := dk_180 0 149 (dk_at dksX0_lossPart_3 19 rfl rfl)
theorem dX0_lossPart_90 : decode cX0_lossPart 90 = .ok (.if_icmp .ge 16, 3) := dk_162 0 16 (dk_at dksX0_lossPart_4 0 rfl rfl)
theorem dX0_lossPart_93 : decode cX0_lossPart 93 = .ok (.lload 7, 2) := dk_22 7 (dk_at dksX0_lossPart_4 3 rfl rfl)
theorem dX0_lossPart_95 : decode cX0_lossPart 95 = .ok (.iload_n 1, 1) := dk_27 (dk_at dksX0_lossPart_4 5 rfl rfl)
theorem dX0_lossPart_96 : decode cX0_lossPart 96 = .ok (.i2l, 1) := dk_133 (dk_at dksX0_lossPart_4 6 rfl rfl)
theorem dX0_lossPart_97 : decode cX0_lossPart 97 = .ok (.lmul, 1) := dk_105 (dk_at dksX0_lossPart_4 7 rfl rfl)
theorem dX0_lossPart_98 : decode cX0_lossPart 98 = .ok (.lstore 7, 2) := dk_55 7 (dk_at dksX0_lossPart_4 8 rfl rfl)
theorem dX0_lossPart_100 : decode cX0_lossPart 100 = .ok (.iinc 9 1, 3) := dk_132 9 1 (dk_at dksX0_lossPart_4 10 rfl rfl)
theorem dX0_lossPart_103 : decode cX0_lossPart 103 = .ok (.goto (-20), 3) := dk_167 255 236 (dk_at dksX0_lossPart_4 13 rfl rfl)
theorem dX0_lossPart_106 : decode cX0_lossPart 106 = .ok (.iconst 0, 1) := dk_3 (dk_at dksX0_lossPart_4 16 rfl rfl)
theorem dX0_lossPart_107 : decode cX0_lossPart 107 = .ok (.istore 9, 2) := dk_54 9 (dk_at dksX0_lossPart_4 17 rfl rfl)
theorem dX0_lossPart_109 : decode cX0_lossPart 109 = .ok (.iload 9, 2) := dk_21 9 (dk_at dksX0_lossPart_4 19 rfl rfl)
theorem dX0_lossPart_111 : decode cX0_lossPart 111 = .ok (.iconst 1, 1) := dk_4 (dk_at dksX0_lossPart_4 21 rfl rfl)
theorem dX0_lossPart_112 : decode cX0_lossPart 112 = .ok (.aload 4, 2) := dk_25 4 (dk_at dksX0_lossPart_4 22 rfl rfl)
theorem dX0_lossPart_114 : decode cX0_lossPart 114 = .ok (.getfield 149, 3) := dk_180 0 149 (dk_at dksX0_lossPart_5 0 rfl rfl)
theorem dX0_lossPart_117 : decode cX0_lossPart 117 = .ok (.ishl, 1) := dk_120 (dk_at dksX0_lossPart_5 3 rfl rfl)
theorem dX0_lossPart_118 : decode cX0_lossPart 118 = .ok (.if_icmp .ge 174, 3) := dk_162 0 174 (dk_at dksX0_lossPart_5 4 rfl rfl)
theorem dX0_lossPart_121 : decode cX0_lossPart 121 = .ok (.lconst 1, 1) := dk_10 (dk_at dksX0_lossPart_5 7 rfl rfl)
theorem dX0_lossPart_122 : decode cX0_lossPart 122 = .ok (.lstore 10, 2) := dk_55 10 (dk_at dksX0_lossPart_5 8 rfl rfl)
theorem dX0_lossPart_124 : decode cX0_lossPart 124 = .ok (.iconst 0, 1) := dk_3 (dk_at dksX0_lossPart_5 10 rfl rfl)
theorem dX0_lossPart_125 : decode cX0_lossPart 125 = .ok (.istore 12, 2) := dk_54 12 (dk_at dksX0_lossPart_5 11 rfl rfl)
theorem dX0_lossPart_127 : decode cX0_lossPart 127 = .ok (.iload 12, 2) := dk_21 12 (dk_at dksX0_lossPart_5 13 rfl rfl)
theorem dX0_lossPart_129 : decode cX0_lossPart 129 = .ok (.aload 4, 2) := dk_25 4 (dk_at dksX0_lossPart_5 15 rfl rfl)
theorem dX0_lossPart_131 : decode cX0_lossPart 131 = .ok (.getfield 149, 3) := dk_180 0 149 (dk_at dksX0_lossPart_5 17 rfl rfl)
theorem dX0_lossPart_134 : decode cX0_lossPart 134 = .ok (.if_icmp .ge 64, 3) := dk_162 0 64 (dk_at dksX0_lossPart_5 20 rfl rfl)
theorem dX0_lossPart_137 : decode cX0_lossPart 137 = .ok (.lload 10, 2) := dk_22 10 (dk_at dksX0_lossPart_6 0 rfl rfl)
theorem dX0_lossPart_139 : decode cX0_lossPart 139 = .ok (.iload 9, 2) := dk_21 9 (dk_at dksX0_lossPart_6 2 rfl rfl)
theorem dX0_lossPart_141 : decode cX0_lossPart 141 = .ok (.iload 12, 2) := dk_21 12 (dk_at dksX0_lossPart_6 4 rfl rfl)
theorem dX0_lossPart_143 : decode cX0_lossPart 143 = .ok (.invokestatic 289, 3) := dk_184 1 33 (dk_at dksX0_lossPart_6 6 rfl rfl)
theorem dX0_lossPart_146 : decode cX0_lossPart 146 = .ok (.ifCond .eq 7, 3) := dk_153 0 7 (dk_at dksX0_lossPart_6 9 rfl rfl)
theorem dX0_lossPart_149 : decode cX0_lossPart 149 = .ok (.lconst 1, 1) := dk_10 (dk_at dksX0_lossPart_6 12 rfl rfl)
theorem dX0_lossPart_150 : decode cX0_lossPart 150 = .ok (.goto 7, 3) := dk_167 0 7 (dk_at dksX0_lossPart_6 13 rfl rfl)
theorem dX0_lossPart_153 : decode cX0_lossPart 153 = .ok (.iload_n 1, 1) := dk_27 (dk_at dksX0_lossPart_6 16 rfl rfl)
theorem dX0_lossPart_154 : decode cX0_lossPart 154 = .ok (.iconst 1, 1) := dk_4 (dk_at dksX0_lossPart_6 17 rfl rfl)
theorem dX0_lossPart_155 : decode cX0_lossPart 155 = .ok (.isub, 1) := dk_100 (dk_at dksX0_lossPart_6 18 rfl rfl)
theorem dX0_lossPart_156 : decode cX0_lossPart 156 = .ok (.i2l, 1) := dk_133 (dk_at dksX0_lossPart_6 19 rfl rfl)
theorem dX0_lossPart_157 : decode cX0_lossPart 157 = .ok (.lmul, 1) := dk_105 (dk_at dksX0_lossPart_6 20 rfl rfl)
theorem dX0_lossPart_158 : decode cX0_lossPart 158 = .ok (.lstore 10, 2) := dk_55 10 (dk_at dksX0_lossPart_6 21 rfl rfl)
theorem dX0_lossPart_160 : decode cX0_lossPart 160 = .ok (.iload 9, 2) := dk_21 9 (dk_at dksX0_lossPart_7 0 rfl rfl)
theorem dX0_lossPart_162 : decode cX0_lossPart 162 = .ok (.iload 12, 2) := dk_21 12 (dk_at dksX0_lossPart_7 2 rfl rfl)
theorem dX0_lossPart_164 : decode cX0_lossPart 164 = .ok (.invokestatic 289, 3) := dk_184 1 33 (dk_at dksX0_lossPart_7 4 rfl rfl)
theorem dX0_lossPart_167 : decode cX0_lossPart 167 = .ok (.ifCond .eq 25, 3) := dk_153 0 25 (dk_at dksX0_lossPart_7 7 rfl rfl)
theorem dX0_lossPart_170 : decode cX0_lossPart 170 = .ok (.aload_n 0, 1) := dk_42 (dk_at dksX0_lossPart_7 10 rfl rfl)
theorem dX0_lossPart_171 : decode cX0_lossPart 171 = .ok (.aload 4, 2) := dk_25 4 (dk_at dksX0_lossPart_7 11 rfl rfl)
theorem dX0_lossPart_173 : decode cX0_lossPart 173 = .ok (.iload 12, 2) := dk_21 12 (dk_at dksX0_lossPart_7 13 rfl rfl)
theorem dX0_lossPart_175 : decode cX0_lossPart 175 = .ok (.invokevirtual 152, 3) := dk_182 0 152 (dk_at dksX0_lossPart_7 15 rfl rfl)
theorem dX0_lossPart_178 : decode cX0_lossPart 178 = .ok (.checkcast 155, 3) := dk_192 0 155 (dk_at dksX0_lossPart_7 18 rfl rfl)
theorem dX0_lossPart_181 : decode cX0_lossPart 181 = .ok (.getfield 157, 3) := dk_180 0 157 (dk_at dksX0_lossPart_7 21 rfl rfl)
theorem dX0_lossPart_184 : decode cX0_lossPart 184 = .ok (.aload_n 0, 1) := dk_42 (dk_at dksX0_lossPart_8 0 rfl rfl)
theorem dX0_lossPart_185 : decode cX0_lossPart 185 = .ok (.getfield 96, 3) := dk_180 0 96 (dk_at dksX0_lossPart_8 1 rfl rfl)
theorem dX0_lossPart_188 : decode cX0_lossPart 188 = .ok (.invokevirtual 218, 3) := dk_182 0 218 (dk_at dksX0_lossPart_8 4 rfl rfl)
theorem dX0_lossPart_191 : decode cX0_lossPart 191 = .ok (.pop, 1) := dk_87 (dk_at dksX0_lossPart_8 7 rfl rfl)
theorem dX0_lossPart_192 : decode cX0_lossPart 192 = .ok (.iinc 12 1, 3) := dk_132 12 1 (dk_at dksX0_lossPart_8 8 rfl rfl)
theorem dX0_lossPart_195 : decode cX0_lossPart 195 = .ok (.goto (-68), 3) := dk_167 255 188 (dk_at dksX0_lossPart_8 11 rfl rfl)
theorem dX0_lossPart_198 : decode cX0_lossPart 198 = .ok (.lload 5, 2) := dk_22 5 (dk_at dksX0_lossPart_8 14 rfl rfl)
theorem dX0_lossPart_200 : decode cX0_lossPart 200 = .ok (.aload_n 0, 1) := dk_42 (dk_at dksX0_lossPart_8 16 rfl rfl)
theorem dX0_lossPart_201 : decode cX0_lossPart 201 = .ok (.getfield 73, 3) := dk_180 0 73 (dk_at dksX0_lossPart_8 17 rfl rfl)
theorem dX0_lossPart_204 : decode cX0_lossPart 204 = .ok (.aload_n 0, 1) := dk_42 (dk_at dksX0_lossPart_8 20 rfl rfl)
theorem dX0_lossPart_205 : decode cX0_lossPart 205 = .ok (.getfield 66, 3) := dk_180 0 66 (dk_at dksX0_lossPart_8 21 rfl rfl)
theorem dX0_lossPart_208 : decode cX0_lossPart 208 = .ok (.invokevirtual 192, 3) := dk_182 0 192 (dk_at dksX0_lossPart_9 0 rfl rfl)
theorem dX0_lossPart_211 : decode cX0_lossPart 211 = .ok (.invokevirtual 293, 3) := dk_182 1 37 (dk_at dksX0_lossPart_9 3 rfl rfl)
theorem dX0_lossPart_214 : decode cX0_lossPart 214 = .ok (.ifCond .eq 8, 3) := dk_153 0 8 (dk_at dksX0_lossPart_9 6 rfl rfl)
theorem dX0_lossPart_217 : decode cX0_lossPart 217 = .ok (.lload 10, 2) := dk_22 10 (dk_at dksX0_lossPart_9 9 rfl rfl)
theorem dX0_lossPart_219 : decode cX0_lossPart 219 = .ok (.goto 4, 3) := dk_167 0 4 (dk_at dksX0_lossPart_9 11 rfl rfl)
theorem dX0_lossPart_222 : decode cX0_lossPart 222 = .ok (.lconst 0, 1) := dk_9 (dk_at dksX0_lossPart_9 14 rfl rfl)
theorem dX0_lossPart_223 : decode cX0_lossPart 223 = .ok (.ladd, 1) := dk_97 (dk_at dksX0_lossPart_9 15 rfl rfl)
theorem dX0_lossPart_224 : decode cX0_lossPart 224 = .ok (.lstore 5, 2) := dk_55 5 (dk_at dksX0_lossPart_9 16 rfl rfl)
theorem dX0_lossPart_226 : decode cX0_lossPart 226 = .ok (.iconst 0, 1) := dk_3 (dk_at dksX0_lossPart_9 18 rfl rfl)
theorem dX0_lossPart_227 : decode cX0_lossPart 227 = .ok (.istore 12, 2) := dk_54 12 (dk_at dksX0_lossPart_9 19 rfl rfl)
theorem dX0_lossPart_229 : decode cX0_lossPart 229 = .ok (.iload 12, 2) := dk_21 12 (dk_at dksX0_lossPart_9 21 rfl rfl)
theorem dX0_lossPart_231 : decode cX0_lossPart 231 = .ok (.aload 4, 2) := dk_25 4 (dk_at dksX0_lossPart_10 0 rfl rfl)
theorem dX0_lossPart_233 : decode cX0_lossPart 233 = .ok (.getfield 149, 3) := dk_180 0 149 (dk_at dksX0_lossPart_10 2 rfl rfl)
theorem dX0_lossPart_236 : decode cX0_lossPart 236 = .ok (.if_icmp .ge 50, 3) := dk_162 0 50 (dk_at dksX0_lossPart_10 5 rfl rfl)
theorem dX0_lossPart_239 : decode cX0_lossPart 239 = .ok (.iload 9, 2) := dk_21 9 (dk_at dksX0_lossPart_10 8 rfl rfl)
theorem dX0_lossPart_241 : decode cX0_lossPart 241 = .ok (.iload 12, 2) := dk_21 12 (dk_at dksX0_lossPart_10 10 rfl rfl)
theorem dX0_lossPart_243 : decode cX0_lossPart 243 = .ok (.invokestatic 289, 3) := dk_184 1 33 (dk_at dksX0_lossPart_10 12 rfl rfl)
theorem dX0_lossPart_246 : decode cX0_lossPart 246 = .ok (.ifCond .eq 34, 3) := dk_153 0 34 (dk_at dksX0_lossPart_10 15 rfl rfl)
theorem dX0_lossPart_249 : decode cX0_lossPart 249 = .ok (.aload_n 0, 1) := dk_42 (dk_at dksX0_lossPart_10 18 rfl rfl)
theorem dX0_lossPart_250 : decode cX0_lossPart 250 = .ok (.aload 4, 2) := dk_25 4 (dk_at dksX0_lossPart_10 19 rfl rfl)
theorem dX0_lossPart_252 : decode cX0_lossPart 252 = .ok (.iload 12, 2) := dk_21 12 (dk_at dksX0_lossPart_10 21 rfl rfl)
theorem dX0_lossPart_254 : decode cX0_lossPart 254 = .ok (.invokevirtual 152, 3) := dk_182 0 152 (dk_at dksX0_lossPart_11 0 rfl rfl)
theorem dX0_lossPart_257 : decode cX0_lossPart 257 = .ok (.checkcast 155, 3) := dk_192 0 155 (dk_at dksX0_lossPart_11 3 rfl rfl)
theorem dX0_lossPart_260 : decode cX0_lossPart 260 = .ok (.getfield 157, 3) := dk_180 0 157 (dk_at dksX0_lossPart_11 6 rfl rfl)
theorem dX0_lossPart_263 : decode cX0_lossPart 263 = .ok (.aload 4, 2) := dk_25 4 (dk_at dksX0_lossPart_11 9 rfl rfl)
theorem dX0_lossPart_265 : decode cX0_lossPart 265 = .ok (.iload 12, 2) := dk_21 12 (dk_at dksX0_lossPart_11 11 rfl rfl)
theorem dX0_lossPart_267 : decode cX0_lossPart 267 = .ok (.invokevirtual 152, 3) := dk_182 0 152 (dk_at dksX0_lossPart_11 13 rfl rfl)
theorem dX0_lossPart_270 : decode cX0_lossPart 270 = .ok (.checkcast 155, 3) := dk_192 0 155 (dk_at dksX0_lossPart_11 16 rfl rfl)
theorem dX0_lossPart_273 : decode cX0_lossPart 273 = .ok (.getfield 160, 3) := dk_180 0 160 (dk_at dksX0_lossPart_11 19 rfl rfl)
theorem dX0_lossPart_276 : decode cX0_lossPart 276 = .ok (.invokevirtual 218, 3) := dk_182 0 218 (dk_at dksX0_lossPart_12 0 rfl rfl)
theorem dX0_lossPart_279 : decode cX0_lossPart 279 = .ok (.pop, 1) := dk_87 (dk_at dksX0_lossPart_12 3 rfl rfl)
theorem dX0_lossPart_280 : decode cX0_lossPart 280 = .ok (.iinc 12 1, 3) := dk_132 12 1 (dk_at dksX0_lossPart_12 4 rfl rfl)
theorem dX0_lossPart_283 : decode cX0_lossPart 283 = .ok (.goto (-54), 3) := dk_167 255 202 (dk_at dksX0_lossPart_12 7 rfl rfl)
theorem dX0_lossPart_286 : decode cX0_lossPart 286 = .ok (.iinc 9 1, 3) := dk_132 9 1 (dk_at dksX0_lossPart_12 10 rfl rfl)
theorem dX0_lossPart_289 : decode cX0_lossPart 289 = .ok (.goto (-180), 3) := dk_167 255 76 (dk_at dksX0_lossPart_12 13 rfl rfl)
theorem dX0_lossPart_292 : decode cX0_lossPart 292 = .ok (.lload 5, 2) := dk_22 5 (dk_at dksX0_lossPart_12 16 rfl rfl)
theorem dX0_lossPart_294 : decode cX0_lossPart 294 = .ok (.lload 7, 2) := dk_22 7 (dk_at dksX0_lossPart_12 18 rfl rfl)
theorem dX0_lossPart_296 : decode cX0_lossPart 296 = .ok (.iload_n 2, 1) := dk_28 (dk_at dksX0_lossPart_12 20 rfl rfl)
theorem dX0_lossPart_297 : decode cX0_lossPart 297 = .ok (.invokestatic 297, 3) := dk_184 1 41 (dk_at dksX0_lossPart_12 21 rfl rfl)
theorem dX0_lossPart_300 : decode cX0_lossPart 300 = .ok (.lreturn, 1) := dk_173 (dk_at dksX0_lossPart_13 0 rfl rfl)
abbrev cX0_has : ByteArray := prog_1_method_5_code
def yX0_has : MethodName := ⟨RX0, "has", "(II)Z"⟩
def dkwX0_has_0 : List UInt8 := [26, 27, 122, 4, 126, 4, 160, 0, 7, 4, 167, 0, 4, 3, 172]
abbrev dktX0_has_0 : List UInt8 := dkwX0_has_0 ++ []
theorem dksX0_has_0 : cX0_has.data.toList.drop 0 = dktX0_has_0 := by decide +kernel
theorem dX0_has_0 : decode cX0_has 0 = .ok (.iload_n 0, 1) := dk_26 (dk_at dksX0_has_0 0 rfl rfl)
theorem dX0_has_1 : decode cX0_has 1 = .ok (.iload_n 1, 1) := dk_27 (dk_at dksX0_has_0 1 rfl rfl)
theorem dX0_has_2 : decode cX0_has 2 = .ok (.ishr, 1) := dk_122 (dk_at dksX0_has_0 2 rfl rfl)
theorem dX0_has_3 : decode cX0_has 3 = .ok (.iconst 1, 1) := dk_4 (dk_at dksX0_has_0 3 rfl rfl)
theorem dX0_has_4 : decode cX0_has 4 = .ok (.iand, 1) := dk_126 (dk_at dksX0_has_0 4 rfl rfl)
theorem dX0_has_5 : decode cX0_has 5 = .ok (.iconst 1, 1) := dk_4 (dk_at dksX0_has_0 5 rfl rfl)
theorem dX0_has_6 : decode cX0_has 6 = .ok (.if_icmp .ne 7, 3) := dk_160 0 7 (dk_at dksX0_has_0 6 rfl rfl)
theorem dX0_has_9 : decode cX0_has 9 = .ok (.iconst 1, 1) := dk_4 (dk_at dksX0_has_0 9 rfl rfl)
theorem dX0_has_10 : decode cX0_has 10 = .ok (.goto 4, 3) := dk_167 0 4 (dk_at dksX0_has_0 10 rfl rfl)
theorem dX0_has_13 : decode cX0_has 13 = .ok (.iconst 0, 1) := dk_3 (dk_at dksX0_has_0 13 rfl rfl)
theorem dX0_has_14 : decode cX0_has 14 = .ok (.ireturn, 1) := dk_172 (dk_at dksX0_has_0 14 rfl rfl)
abbrev cX0_partOf : ByteArray := prog_1_method_8_code
def yX0_partOf : MethodName := ⟨RX0, "partOf", "(JJI)J"⟩
def dkwX0_partOf_1 : List UInt8 := [22, 5, 109, 167, 0, 7, 32, 22, 5, 109, 173]
abbrev dktX0_partOf_1 : List UInt8 := dkwX0_partOf_1 ++ []
def dkwX0_partOf_0 : List UInt8 := [30, 9, 148, 154, 0, 7, 21, 4, 133, 173, 30, 32, 184, 0, 17, 55, 5, 21, 4, 154, 0, 10, 30]
abbrev dktX0_partOf_0 : List UInt8 := dkwX0_partOf_0 ++ dktX0_partOf_1
theorem dksX0_partOf_0 : cX0_partOf.data.toList.drop 0 = dktX0_partOf_0 := by decide +kernel
theorem dksX0_partOf_1 : cX0_partOf.data.toList.drop 23 = dktX0_partOf_1 := dk_seg dksX0_partOf_0 23 rfl rfl
theorem dX0_partOf_0 : decode cX0_partOf 0 = .ok (.lload_n 0, 1) := dk_30 (dk_at dksX0_partOf_0 0 rfl rfl)
theorem dX0_partOf_1 : decode cX0_partOf 1 = .ok (.lconst 0, 1) := dk_9 (dk_at dksX0_partOf_0 1 rfl rfl)
theorem dX0_partOf_2 : decode cX0_partOf 2 = .ok (.lcmp, 1) := dk_148 (dk_at dksX0_partOf_0 2 rfl rfl)
theorem dX0_partOf_3 : decode cX0_partOf 3 = .ok (.ifCond .ne 7, 3) := dk_154 0 7 (dk_at dksX0_partOf_0 3 rfl rfl)
theorem dX0_partOf_6 : decode cX0_partOf 6 = .ok (.iload 4, 2) := dk_21 4 (dk_at dksX0_partOf_0 6 rfl rfl)
theorem dX0_partOf_8 : decode cX0_partOf 8 = .ok (.i2l, 1) := dk_133 (dk_at dksX0_partOf_0 8 rfl rfl)
theorem dX0_partOf_9 : decode cX0_partOf 9 = .ok (.lreturn, 1) := dk_173 (dk_at dksX0_partOf_0 9 rfl rfl)
theorem dX0_partOf_10 : decode cX0_partOf 10 = .ok (.lload_n 0, 1) := dk_30 (dk_at dksX0_partOf_0 10 rfl rfl)
theorem dX0_partOf_11 : decode cX0_partOf 11 = .ok (.lload_n 2, 1) := dk_32 (dk_at dksX0_partOf_0 11 rfl rfl)
theorem dX0_partOf_12 : decode cX0_partOf 12 = .ok (.invokestatic 17, 3) := dk_184 0 17 (dk_at dksX0_partOf_0 12 rfl rfl)
theorem dX0_partOf_15 : decode cX0_partOf 15 = .ok (.lstore 5, 2) := dk_55 5 (dk_at dksX0_partOf_0 15 rfl rfl)
theorem dX0_partOf_17 : decode cX0_partOf 17 = .ok (.iload 4, 2) := dk_21 4 (dk_at dksX0_partOf_0 17 rfl rfl)
theorem dX0_partOf_19 : decode cX0_partOf 19 = .ok (.ifCond .ne 10, 3) := dk_154 0 10 (dk_at dksX0_partOf_0 19 rfl rfl)
theorem dX0_partOf_22 : decode cX0_partOf 22 = .ok (.lload_n 0, 1) := dk_30 (dk_at dksX0_partOf_0 22 rfl rfl)
theorem dX0_partOf_23 : decode cX0_partOf 23 = .ok (.lload 5, 2) := dk_22 5 (dk_at dksX0_partOf_1 0 rfl rfl)
theorem dX0_partOf_25 : decode cX0_partOf 25 = .ok (.ldiv, 1) := dk_109 (dk_at dksX0_partOf_1 2 rfl rfl)
theorem dX0_partOf_26 : decode cX0_partOf 26 = .ok (.goto 7, 3) := dk_167 0 7 (dk_at dksX0_partOf_1 3 rfl rfl)
theorem dX0_partOf_29 : decode cX0_partOf 29 = .ok (.lload_n 2, 1) := dk_32 (dk_at dksX0_partOf_1 6 rfl rfl)
theorem dX0_partOf_30 : decode cX0_partOf 30 = .ok (.lload 5, 2) := dk_22 5 (dk_at dksX0_partOf_1 7 rfl rfl)
theorem dX0_partOf_32 : decode cX0_partOf 32 = .ok (.ldiv, 1) := dk_109 (dk_at dksX0_partOf_1 9 rfl rfl)
theorem dX0_partOf_33 : decode cX0_partOf 33 = .ok (.lreturn, 1) := dk_173 (dk_at dksX0_partOf_1 10 rfl rfl)
abbrev cX0_divisor : ByteArray := prog_1_method_7_code
def yX0_divisor : MethodName := ⟨RX0, "divisor", "(JJ)J"⟩
def dkwX0_divisor_0 : List UInt8 := [32, 9, 148, 154, 0, 7, 30, 167, 0, 10, 32, 30, 32, 113, 184, 0, 17, 173]
abbrev dktX0_divisor_0 : List UInt8 := dkwX0_divisor_0 ++ []
theorem dksX0_divisor_0 : cX0_divisor.data.toList.drop 0 = dktX0_divisor_0 := by decide +kernel
theorem dX0_divisor_0 : decode cX0_divisor 0 = .ok (.lload_n 2, 1) := dk_32 (dk_at dksX0_divisor_0 0 rfl rfl)
theorem dX0_divisor_1 : decode cX0_divisor 1 = .ok (.lconst 0, 1) := dk_9 (dk_at dksX0_divisor_0 1 rfl rfl)
theorem dX0_divisor_2 : decode cX0_divisor 2 = .ok (.lcmp, 1) := dk_148 (dk_at dksX0_divisor_0 2 rfl rfl)
theorem dX0_divisor_3 : decode cX0_divisor 3 = .ok (.ifCond .ne 7, 3) := dk_154 0 7 (dk_at dksX0_divisor_0 3 rfl rfl)
theorem dX0_divisor_6 : decode cX0_divisor 6 = .ok (.lload_n 0, 1) := dk_30 (dk_at dksX0_divisor_0 6 rfl rfl)
theorem dX0_divisor_7 : decode cX0_divisor 7 = .ok (.goto 10, 3) := dk_167 0 10 (dk_at dksX0_divisor_0 7 rfl rfl)
theorem dX0_divisor_10 : decode cX0_divisor 10 = .ok (.lload_n 2, 1) := dk_32 (dk_at dksX0_divisor_0 10 rfl rfl)
theorem dX0_divisor_11 : decode cX0_divisor 11 = .ok (.lload_n 0, 1) := dk_30 (dk_at dksX0_divisor_0 11 rfl rfl)
theorem dX0_divisor_12 : decode cX0_divisor 12 = .ok (.lload_n 2, 1) := dk_32 (dk_at dksX0_divisor_0 12 rfl rfl)
theorem dX0_divisor_13 : decode cX0_divisor 13 = .ok (.lrem, 1) := dk_113 (dk_at dksX0_divisor_0 13 rfl rfl)
theorem dX0_divisor_14 : decode cX0_divisor 14 = .ok (.invokestatic 17, 3) := dk_184 0 17 (dk_at dksX0_divisor_0 14 rfl rfl)
theorem dX0_divisor_17 : decode cX0_divisor 17 = .ok (.lreturn, 1) := dk_173 (dk_at dksX0_divisor_0 17 rfl rfl)
abbrev cX0_far : ByteArray := prog_1_method_49_code
def yX0_far : MethodName := ⟨RX0, "far", "(LGathersAllFaults$Refusal;)J"⟩
def dkwX0_far_0 : List UInt8 := [20, 1, 94, 42, 43, 182, 1, 88, 182, 1, 91, 133, 101, 173]
abbrev dktX0_far_0 : List UInt8 := dkwX0_far_0 ++ []
theorem dksX0_far_0 : cX0_far.data.toList.drop 0 = dktX0_far_0 := by decide +kernel
theorem dX0_far_0 : decode cX0_far 0 = .ok (.ldc2_w 350, 3) := dk_20 1 94 (dk_at dksX0_far_0 0 rfl rfl)
theorem dX0_far_3 : decode cX0_far 3 = .ok (.aload_n 0, 1) := dk_42 (dk_at dksX0_far_0 3 rfl rfl)
theorem dX0_far_4 : decode cX0_far 4 = .ok (.aload_n 1, 1) := dk_43 (dk_at dksX0_far_0 4 rfl rfl)
theorem dX0_far_5 : decode cX0_far 5 = .ok (.invokevirtual 344, 3) := dk_182 1 88 (dk_at dksX0_far_0 5 rfl rfl)
theorem dX0_far_8 : decode cX0_far 8 = .ok (.invokevirtual 347, 3) := dk_182 1 91 (dk_at dksX0_far_0 8 rfl rfl)
theorem dX0_far_11 : decode cX0_far 11 = .ok (.i2l, 1) := dk_133 (dk_at dksX0_far_0 11 rfl rfl)
theorem dX0_far_12 : decode cX0_far 12 = .ok (.lsub, 1) := dk_101 (dk_at dksX0_far_0 12 rfl rfl)
theorem dX0_far_13 : decode cX0_far 13 = .ok (.lreturn, 1) := dk_173 (dk_at dksX0_far_0 13 rfl rfl)
abbrev cX0_mean : ByteArray := prog_1_method_86_code
def yX0_mean : MethodName := ⟨RX0, "mean", "(I)J"⟩
def dkwX0_mean_0 : List UInt8 := [42, 27, 182, 1, 205, 173]
abbrev dktX0_mean_0 : List UInt8 := dkwX0_mean_0 ++ []
theorem dksX0_mean_0 : cX0_mean.data.toList.drop 0 = dktX0_mean_0 := by decide +kernel
theorem dX0_mean_0 : decode cX0_mean 0 = .ok (.aload_n 0, 1) := dk_42 (dk_at dksX0_mean_0 0 rfl rfl)
theorem dX0_mean_1 : decode cX0_mean 1 = .ok (.iload_n 1, 1) := dk_27 (dk_at dksX0_mean_0 1 rfl rfl)
theorem dX0_mean_2 : decode cX0_mean 2 = .ok (.invokevirtual 461, 3) := dk_182 1 205 (dk_at dksX0_mean_0 2 rfl rfl)
theorem dX0_mean_5 : decode cX0_mean 5 = .ok (.lreturn, 1) := dk_173 (dk_at dksX0_mean_0 5 rfl rfl)
abbrev cX0_meanTold : ByteArray := prog_1_method_61_code
def yX0_meanTold : MethodName := ⟨RX0, "meanTold", "(I)J"⟩
def dkwX0_meanTold_1 : List UInt8 := [184, 1, 41, 173, 77, 42, 44, 182, 1, 192, 173]
abbrev dktX0_meanTold_1 : List UInt8 := dkwX0_meanTold_1 ++ []
def dkwX0_meanTold_0 : List UInt8 := [27, 184, 0, 226, 42, 182, 0, 229, 180, 0, 221, 180, 0, 149, 133, 42, 180, 0, 66, 182, 0, 54, 133, 27]
abbrev dktX0_meanTold_0 : List UInt8 := dkwX0_meanTold_0 ++ dktX0_meanTold_1
theorem dksX0_meanTold_0 : cX0_meanTold.data.toList.drop 0 = dktX0_meanTold_0 := by decide +kernel
theorem dksX0_meanTold_1 : cX0_meanTold.data.toList.drop 24 = dktX0_meanTold_1 := dk_seg dksX0_meanTold_0 24 rfl rfl
theorem dX0_meanTold_0 : decode cX0_meanTold 0 = .ok (.iload_n 1, 1) := dk_27 (dk_at dksX0_meanTold_0 0 rfl rfl)
theorem dX0_meanTold_1 : decode cX0_meanTold 1 = .ok (.invokestatic 226, 3) := dk_184 0 226 (dk_at dksX0_meanTold_0 1 rfl rfl)
theorem dX0_meanTold_4 : decode cX0_meanTold 4 = .ok (.aload_n 0, 1) := dk_42 (dk_at dksX0_meanTold_0 4 rfl rfl)
theorem dX0_meanTold_5 : decode cX0_meanTold 5 = .ok (.invokevirtual 229, 3) := dk_182 0 229 (dk_at dksX0_meanTold_0 5 rfl rfl)
theorem dX0_meanTold_8 : decode cX0_meanTold 8 = .ok (.getfield 221, 3) := dk_180 0 221 (dk_at dksX0_meanTold_0 8 rfl rfl)
theorem dX0_meanTold_11 : decode cX0_meanTold 11 = .ok (.getfield 149, 3) := dk_180 0 149 (dk_at dksX0_meanTold_0 11 rfl rfl)
theorem dX0_meanTold_14 : decode cX0_meanTold 14 = .ok (.i2l, 1) := dk_133 (dk_at dksX0_meanTold_0 14 rfl rfl)
theorem dX0_meanTold_15 : decode cX0_meanTold 15 = .ok (.aload_n 0, 1) := dk_42 (dk_at dksX0_meanTold_0 15 rfl rfl)
theorem dX0_meanTold_16 : decode cX0_meanTold 16 = .ok (.getfield 66, 3) := dk_180 0 66 (dk_at dksX0_meanTold_0 16 rfl rfl)
theorem dX0_meanTold_19 : decode cX0_meanTold 19 = .ok (.invokevirtual 54, 3) := dk_182 0 54 (dk_at dksX0_meanTold_0 19 rfl rfl)
theorem dX0_meanTold_22 : decode cX0_meanTold 22 = .ok (.i2l, 1) := dk_133 (dk_at dksX0_meanTold_0 22 rfl rfl)
theorem dX0_meanTold_23 : decode cX0_meanTold 23 = .ok (.iload_n 1, 1) := dk_27 (dk_at dksX0_meanTold_0 23 rfl rfl)
theorem dX0_meanTold_24 : decode cX0_meanTold 24 = .ok (.invokestatic 297, 3) := dk_184 1 41 (dk_at dksX0_meanTold_1 0 rfl rfl)
theorem dX0_meanTold_27 : decode cX0_meanTold 27 = .ok (.lreturn, 1) := dk_173 (dk_at dksX0_meanTold_1 3 rfl rfl)
theorem dX0_meanTold_28 : decode cX0_meanTold 28 = .ok (.astore_n 2, 1) := dk_77 (dk_at dksX0_meanTold_1 4 rfl rfl)
theorem dX0_meanTold_29 : decode cX0_meanTold 29 = .ok (.aload_n 0, 1) := dk_42 (dk_at dksX0_meanTold_1 5 rfl rfl)
theorem dX0_meanTold_30 : decode cX0_meanTold 30 = .ok (.aload_n 2, 1) := dk_44 (dk_at dksX0_meanTold_1 6 rfl rfl)
theorem dX0_meanTold_31 : decode cX0_meanTold 31 = .ok (.invokevirtual 448, 3) := dk_182 1 192 (dk_at dksX0_meanTold_1 7 rfl rfl)
theorem dX0_meanTold_34 : decode cX0_meanTold 34 = .ok (.lreturn, 1) := dk_173 (dk_at dksX0_meanTold_1 10 rfl rfl)
abbrev cX0_which : ByteArray := prog_1_method_87_code
def yX0_which : MethodName := ⟨RX0, "which", "(I)I"⟩
def dkwX0_which_0 : List UInt8 := [42, 16, 21, 27, 3, 3, 182, 1, 199, 172]
abbrev dktX0_which_0 : List UInt8 := dkwX0_which_0 ++ []
theorem dksX0_which_0 : cX0_which.data.toList.drop 0 = dktX0_which_0 := by decide +kernel
theorem dX0_which_0 : decode cX0_which 0 = .ok (.aload_n 0, 1) := dk_42 (dk_at dksX0_which_0 0 rfl rfl)
theorem dX0_which_1 : decode cX0_which 1 = .ok (.bipush 21, 2) := dk_16 21 (dk_at dksX0_which_0 1 rfl rfl)
theorem dX0_which_3 : decode cX0_which 3 = .ok (.iload_n 1, 1) := dk_27 (dk_at dksX0_which_0 3 rfl rfl)
theorem dX0_which_4 : decode cX0_which 4 = .ok (.iconst 0, 1) := dk_3 (dk_at dksX0_which_0 4 rfl rfl)
theorem dX0_which_5 : decode cX0_which 5 = .ok (.iconst 0, 1) := dk_3 (dk_at dksX0_which_0 5 rfl rfl)
theorem dX0_which_6 : decode cX0_which 6 = .ok (.invokevirtual 455, 3) := dk_182 1 199 (dk_at dksX0_which_0 6 rfl rfl)
theorem dX0_which_9 : decode cX0_which 9 = .ok (.ireturn, 1) := dk_172 (dk_at dksX0_which_0 9 rfl rfl)
abbrev cX0_row : ByteArray := prog_1_method_88_code
def yX0_row : MethodName := ⟨RX0, "row", "(I)I"⟩
def dkwX0_row_0 : List UInt8 := [42, 16, 22, 27, 3, 3, 182, 1, 199, 172]
abbrev dktX0_row_0 : List UInt8 := dkwX0_row_0 ++ []
theorem dksX0_row_0 : cX0_row.data.toList.drop 0 = dktX0_row_0 := by decide +kernel
theorem dX0_row_0 : decode cX0_row 0 = .ok (.aload_n 0, 1) := dk_42 (dk_at dksX0_row_0 0 rfl rfl)
theorem dX0_row_1 : decode cX0_row 1 = .ok (.bipush 22, 2) := dk_16 22 (dk_at dksX0_row_0 1 rfl rfl)
theorem dX0_row_3 : decode cX0_row 3 = .ok (.iload_n 1, 1) := dk_27 (dk_at dksX0_row_0 3 rfl rfl)
theorem dX0_row_4 : decode cX0_row 4 = .ok (.iconst 0, 1) := dk_3 (dk_at dksX0_row_0 4 rfl rfl)
theorem dX0_row_5 : decode cX0_row 5 = .ok (.iconst 0, 1) := dk_3 (dk_at dksX0_row_0 5 rfl rfl)
theorem dX0_row_6 : decode cX0_row 6 = .ok (.invokevirtual 455, 3) := dk_182 1 199 (dk_at dksX0_row_0 6 rfl rfl)
theorem dX0_row_9 : decode cX0_row 9 = .ok (.ireturn, 1) := dk_172 (dk_at dksX0_row_0 9 rfl rfl)
abbrev cX0_judge : ByteArray := prog_1_method_89_code
def yX0_judge : MethodName := ⟨RX0, "judge", "()I"⟩
def dkwX0_judge_0 : List UInt8 := [42, 16, 23, 3, 3, 3, 182, 1, 199, 172]
abbrev dktX0_judge_0 : List UInt8 := dkwX0_judge_0 ++ []
theorem dksX0_judge_0 : cX0_judge.data.toList.drop 0 = dktX0_judge_0 := by decide +kernel
theorem dX0_judge_0 : decode cX0_judge 0 = .ok (.aload_n 0, 1) := dk_42 (dk_at dksX0_judge_0 0 rfl rfl)
theorem dX0_judge_1 : decode cX0_judge 1 = .ok (.bipush 23, 2) := dk_16 23 (dk_at dksX0_judge_0 1 rfl rfl)
theorem dX0_judge_3 : decode cX0_judge 3 = .ok (.iconst 0, 1) := dk_3 (dk_at dksX0_judge_0 3 rfl rfl)
theorem dX0_judge_4 : decode cX0_judge 4 = .ok (.iconst 0, 1) := dk_3 (dk_at dksX0_judge_0 4 rfl rfl)
theorem dX0_judge_5 : decode cX0_judge 5 = .ok (.iconst 0, 1) := dk_3 (dk_at dksX0_judge_0 5 rfl rfl)
theorem dX0_judge_6 : decode cX0_judge 6 = .ok (.invokevirtual 455, 3) := dk_182 1 199 (dk_at dksX0_judge_0 6 rfl rfl)
theorem dX0_judge_9 : decode cX0_judge 9 = .ok (.ireturn, 1) := dk_172 (dk_at dksX0_judge_0 9 rfl rfl)
abbrev cX0_clear : ByteArray := prog_1_method_90_code
def yX0_clear : MethodName := ⟨RX0, "clear", "()I"⟩
def dkwX0_clear_0 : List UInt8 := [42, 16, 24, 3, 3, 3, 182, 1, 199, 172]
abbrev dktX0_clear_0 : List UInt8 := dkwX0_clear_0 ++ []
theorem dksX0_clear_0 : cX0_clear.data.toList.drop 0 = dktX0_clear_0 := by decide +kernel
theorem dX0_clear_0 : decode cX0_clear 0 = .ok (.aload_n 0, 1) := dk_42 (dk_at dksX0_clear_0 0 rfl rfl)
theorem dX0_clear_1 : decode cX0_clear 1 = .ok (.bipush 24, 2) := dk_16 24 (dk_at dksX0_clear_0 1 rfl rfl)
theorem dX0_clear_3 : decode cX0_clear 3 = .ok (.iconst 0, 1) := dk_3 (dk_at dksX0_clear_0 3 rfl rfl)
theorem dX0_clear_4 : decode cX0_clear 4 = .ok (.iconst 0, 1) := dk_3 (dk_at dksX0_clear_0 4 rfl rfl)
theorem dX0_clear_5 : decode cX0_clear 5 = .ok (.iconst 0, 1) := dk_3 (dk_at dksX0_clear_0 5 rfl rfl)
theorem dX0_clear_6 : decode cX0_clear 6 = .ok (.invokevirtual 455, 3) := dk_182 1 199 (dk_at dksX0_clear_0 6 rfl rfl)
theorem dX0_clear_9 : decode cX0_clear 9 = .ok (.ireturn, 1) := dk_172 (dk_at dksX0_clear_0 9 rfl rfl)
abbrev cX0_lots : ByteArray := prog_1_method_91_code
def yX0_lots : MethodName := ⟨RX0, "lots", "(III)I"⟩
def dkwX0_lots_0 : List UInt8 := [42, 16, 25, 27, 28, 29, 182, 1, 199, 172]
abbrev dktX0_lots_0 : List UInt8 := dkwX0_lots_0 ++ []
theorem dksX0_lots_0 : cX0_lots.data.toList.drop 0 = dktX0_lots_0 := by decide +kernel
theorem dX0_lots_0 : decode cX0_lots 0 = .ok (.aload_n 0, 1) := dk_42 (dk_at dksX0_lots_0 0 rfl rfl)
theorem dX0_lots_1 : decode cX0_lots 1 = .ok (.bipush 25, 2) := dk_16 25 (dk_at dksX0_lots_0 1 rfl rfl)
theorem dX0_lots_3 : decode cX0_lots 3 = .ok (.iload_n 1, 1) := dk_27 (dk_at dksX0_lots_0 3 rfl rfl)
theorem dX0_lots_4 : decode cX0_lots 4 = .ok (.iload_n 2, 1) := dk_28 (dk_at dksX0_lots_0 4 rfl rfl)
theorem dX0_lots_5 : decode cX0_lots 5 = .ok (.iload_n 3, 1) := dk_29 (dk_at dksX0_lots_0 5 rfl rfl)
theorem dX0_lots_6 : decode cX0_lots 6 = .ok (.invokevirtual 455, 3) := dk_182 1 199 (dk_at dksX0_lots_0 6 rfl rfl)
theorem dX0_lots_9 : decode cX0_lots 9 = .ok (.ireturn, 1) := dk_172 (dk_at dksX0_lots_0 9 rfl rfl)
abbrev cX0_image : ByteArray := prog_1_method_92_code
def yX0_image : MethodName := ⟨RX0, "image", "()I"⟩
def dkwX0_image_0 : List UInt8 := [42, 16, 26, 3, 3, 3, 182, 1, 199, 172]
abbrev dktX0_image_0 : List UInt8 := dkwX0_image_0 ++ []
theorem dksX0_image_0 : cX0_image.data.toList.drop 0 = dktX0_image_0 := by decide +kernel
theorem dX0_image_0 : decode cX0_image 0 = .ok (.aload_n 0, 1) := dk_42 (dk_at dksX0_image_0 0 rfl rfl)
theorem dX0_image_1 : decode cX0_image 1 = .ok (.bipush 26, 2) := dk_16 26 (dk_at dksX0_image_0 1 rfl rfl)
theorem dX0_image_3 : decode cX0_image 3 = .ok (.iconst 0, 1) := dk_3 (dk_at dksX0_image_0 3 rfl rfl)
theorem dX0_image_4 : decode cX0_image 4 = .ok (.iconst 0, 1) := dk_3 (dk_at dksX0_image_0 4 rfl rfl)
theorem dX0_image_5 : decode cX0_image 5 = .ok (.iconst 0, 1) := dk_3 (dk_at dksX0_image_0 5 rfl rfl)
theorem dX0_image_6 : decode cX0_image 6 = .ok (.invokevirtual 455, 3) := dk_182 1 199 (dk_at dksX0_image_0 6 rfl rfl)
theorem dX0_image_9 : decode cX0_image 9 = .ok (.ireturn, 1) := dk_172 (dk_at dksX0_image_0 9 rfl rfl)
abbrev cX0_on : ByteArray := prog_1_method_93_code
def yX0_on : MethodName := ⟨RX0, "on", "()I"⟩
def dkwX0_on_0 : List UInt8 := [42, 16, 27, 3, 3, 3, 182, 1, 199, 172]
abbrev dktX0_on_0 : List UInt8 := dkwX0_on_0 ++ []
theorem dksX0_on_0 : cX0_on.data.toList.drop 0 = dktX0_on_0 := by decide +kernel
theorem dX0_on_0 : decode cX0_on 0 = .ok (.aload_n 0, 1) := dk_42 (dk_at dksX0_on_0 0 rfl rfl)
theorem dX0_on_1 : decode cX0_on 1 = .ok (.bipush 27, 2) := dk_16 27 (dk_at dksX0_on_0 1 rfl rfl)
theorem dX0_on_3 : decode cX0_on 3 = .ok (.iconst 0, 1) := dk_3 (dk_at dksX0_on_0 3 rfl rfl)
theorem dX0_on_4 : decode cX0_on 4 = .ok (.iconst 0, 1) := dk_3 (dk_at dksX0_on_0 4 rfl rfl)
theorem dX0_on_5 : decode cX0_on 5 = .ok (.iconst 0, 1) := dk_3 (dk_at dksX0_on_0 5 rfl rfl)
theorem dX0_on_6 : decode cX0_on 6 = .ok (.invokevirtual 455, 3) := dk_182 1 199 (dk_at dksX0_on_0 6 rfl rfl)
theorem dX0_on_9 : decode cX0_on 9 = .ok (.ireturn, 1) := dk_172 (dk_at dksX0_on_0 9 rfl rfl)
abbrev cX0_count : ByteArray := prog_1_method_94_code
def yX0_count : MethodName := ⟨RX0, "count", "(I)I"⟩
def dkwX0_count_5 : List UInt8 := [180, 0, 85, 27, 16, 10, 100, 46, 167, 0, 5, 16, 247, 172]
abbrev dktX0_count_5 : List UInt8 := dkwX0_count_5 ++ []
def dkwX0_count_4 : List UInt8 := [180, 1, 45, 172, 42, 180, 0, 123, 172, 27, 133, 20, 1, 215, 20, 1, 217, 184, 0, 13, 153, 0, 15, 42]
abbrev dktX0_count_4 : List UInt8 := dkwX0_count_4 ++ dktX0_count_5
def dkwX0_count_3 : List UInt8 := [180, 0, 149, 172, 42, 182, 1, 209, 172, 42, 182, 1, 212, 172, 42, 182, 0, 229, 180, 1, 128, 172, 42]
abbrev dktX0_count_3 : List UInt8 := dkwX0_count_3 ++ dktX0_count_4
def dkwX0_count_2 : List UInt8 := [42, 180, 0, 66, 182, 0, 54, 172, 42, 180, 0, 73, 180, 0, 137, 172, 42, 182, 0, 229, 180, 0, 221]
abbrev dktX0_count_2 : List UInt8 := dkwX0_count_2 ++ dktX0_count_3
def dkwX0_count_1 : List UInt8 := [170, 0, 0, 0, 0, 0, 102, 0, 0, 0, 0, 0, 0, 0, 7, 0, 0, 0, 47, 0, 0, 0, 55, 0, 0, 0, 63, 0, 0, 0, 74, 0, 0, 0, 79, 0, 0, 0, 84, 0, 0, 0, 92, 0, 0, 0, 97]
abbrev dktX0_count_1 : List UInt8 := dkwX0_count_1 ++ dktX0_count_2
def dkwX0_count_0 : List UInt8 := [27]
abbrev dktX0_count_0 : List UInt8 := dkwX0_count_0 ++ dktX0_count_1
theorem dksX0_count_0 : cX0_count.data.toList.drop 0 = dktX0_count_0 := by decide +kernel
theorem dksX0_count_1 : cX0_count.data.toList.drop 1 = dktX0_count_1 := dk_seg dksX0_count_0 1 rfl rfl
theorem dksX0_count_2 : cX0_count.data.toList.drop 48 = dktX0_count_2 := dk_seg dksX0_count_1 47 rfl rfl
theorem dksX0_count_3 : cX0_count.data.toList.drop 71 = dktX0_count_3 := dk_seg dksX0_count_2 23 rfl rfl
theorem dksX0_count_4 : cX0_count.data.toList.drop 94 = dktX0_count_4 := dk_seg dksX0_count_3 23 rfl rfl
theorem dksX0_count_5 : cX0_count.data.toList.drop 118 = dktX0_count_5 := dk_seg dksX0_count_4 24 rfl rfl
theorem dX0_count_0 : decode cX0_count 0 = .ok (.iload_n 1, 1) := dk_27 (dk_at dksX0_count_0 0 rfl rfl)
theorem dX0_count_1 : decode cX0_count 1 = .ok (.tableswitch 102 0 7 #[47, 55, 63, 74, 79, 84, 92, 97], 47) := by decide +kernel
theorem dX0_count_48 : decode cX0_count 48 = .ok (.aload_n 0, 1) := dk_42 (dk_at dksX0_count_2 0 rfl rfl)
theorem dX0_count_49 : decode cX0_count 49 = .ok (.getfield 66, 3) := dk_180 0 66 (dk_at dksX0_count_2 1 rfl rfl)
theorem dX0_count_52 : decode cX0_count 52 = .ok (.invokevirtual 54, 3) := dk_182 0 54 (dk_at dksX0_count_2 4 rfl rfl)
theorem dX0_count_55 : decode cX0_count 55 = .ok (.ireturn, 1) := dk_172 (dk_at dksX0_count_2 7 rfl rfl)
theorem dX0_count_56 : decode cX0_count 56 = .ok (.aload_n 0, 1) := dk_42 (dk_at dksX0_count_2 8 rfl rfl)
theorem dX0_count_57 : decode cX0_count 57 = .ok (.getfield 73, 3) := dk_180 0 73 (dk_at dksX0_count_2 9 rfl rfl)
theorem dX0_count_60 : decode cX0_count 60 = .ok (.getfield 137, 3) := dk_180 0 137 (dk_at dksX0_count_2 12 rfl rfl)
theorem dX0_count_63 : decode cX0_count 63 = .ok (.ireturn, 1) := dk_172 (dk_at dksX0_count_2 15 rfl rfl)
theorem dX0_count_64 : decode cX0_count 64 = .ok (.aload_n 0, 1) := dk_42 (dk_at dksX0_count_2 16 rfl rfl)
theorem dX0_count_65 : decode cX0_count 65 = .ok (.invokevirtual 229, 3) := dk_182 0 229 (dk_at dksX0_count_2 17 rfl rfl)
theorem dX0_count_68 : decode cX0_count 68 = .ok (.getfield 221, 3) := dk_180 0 221 (dk_at dksX0_count_2 20 rfl rfl)
theorem dX0_count_71 : decode cX0_count 71 = .ok (.getfield 149, 3) := dk_180 0 149 (dk_at dksX0_count_3 0 rfl rfl)
theorem dX0_count_74 : decode cX0_count 74 = .ok (.ireturn, 1) := dk_172 (dk_at dksX0_count_3 3 rfl rfl)
theorem dX0_count_75 : decode cX0_count 75 = .ok (.aload_n 0, 1) := dk_42 (dk_at dksX0_count_3 4 rfl rfl)
theorem dX0_count_76 : decode cX0_count 76 = .ok (.invokevirtual 465, 3) := dk_182 1 209 (dk_at dksX0_count_3 5 rfl rfl)
theorem dX0_count_79 : decode cX0_count 79 = .ok (.ireturn, 1) := dk_172 (dk_at dksX0_count_3 8 rfl rfl)
theorem dX0_count_80 : decode cX0_count 80 = .ok (.aload_n 0, 1) := dk_42 (dk_at dksX0_count_3 9 rfl rfl)
theorem dX0_count_81 : decode cX0_count 81 = .ok (.invokevirtual 468, 3) := dk_182 1 212 (dk_at dksX0_count_3 10 rfl rfl)
theorem dX0_count_84 : decode cX0_count 84 = .ok (.ireturn, 1) := dk_172 (dk_at dksX0_count_3 13 rfl rfl)
theorem dX0_count_85 : decode cX0_count 85 = .ok (.aload_n 0, 1) := dk_42 (dk_at dksX0_count_3 14 rfl rfl)
theorem dX0_count_86 : decode cX0_count 86 = .ok (.invokevirtual 229, 3) := dk_182 0 229 (dk_at dksX0_count_3 15 rfl rfl)
theorem dX0_count_89 : decode cX0_count 89 = .ok (.getfield 384, 3) := dk_180 1 128 (dk_at dksX0_count_3 18 rfl rfl)
theorem dX0_count_92 : decode cX0_count 92 = .ok (.ireturn, 1) := dk_172 (dk_at dksX0_count_3 21 rfl rfl)
theorem dX0_count_93 : decode cX0_count 93 = .ok (.aload_n 0, 1) := dk_42 (dk_at dksX0_count_3 22 rfl rfl)
theorem dX0_count_94 : decode cX0_count 94 = .ok (.getfield 301, 3) := dk_180 1 45 (dk_at dksX0_count_4 0 rfl rfl)
theorem dX0_count_97 : decode cX0_count 97 = .ok (.ireturn, 1) := dk_172 (dk_at dksX0_count_4 3 rfl rfl)
theorem dX0_count_98 : decode cX0_count 98 = .ok (.aload_n 0, 1) := dk_42 (dk_at dksX0_count_4 4 rfl rfl)
theorem dX0_count_99 : decode cX0_count 99 = .ok (.getfield 123, 3) := dk_180 0 123 (dk_at dksX0_count_4 5 rfl rfl)
theorem dX0_count_102 : decode cX0_count 102 = .ok (.ireturn, 1) := dk_172 (dk_at dksX0_count_4 8 rfl rfl)
theorem dX0_count_103 : decode cX0_count 103 = .ok (.iload_n 1, 1) := dk_27 (dk_at dksX0_count_4 9 rfl rfl)
theorem dX0_count_104 : decode cX0_count 104 = .ok (.i2l, 1) := dk_133 (dk_at dksX0_count_4 10 rfl rfl)
theorem dX0_count_105 : decode cX0_count 105 = .ok (.ldc2_w 471, 3) := dk_20 1 215 (dk_at dksX0_count_4 11 rfl rfl)
theorem dX0_count_108 : decode cX0_count 108 = .ok (.ldc2_w 473, 3) := dk_20 1 217 (dk_at dksX0_count_4 14 rfl rfl)
theorem dX0_count_111 : decode cX0_count 111 = .ok (.invokestatic 13, 3) := dk_184 0 13 (dk_at dksX0_count_4 17 rfl rfl)
theorem dX0_count_114 : decode cX0_count 114 = .ok (.ifCond .eq 15, 3) := dk_153 0 15 (dk_at dksX0_count_4 20 rfl rfl)
theorem dX0_count_117 : decode cX0_count 117 = .ok (.aload_n 0, 1) := dk_42 (dk_at dksX0_count_4 23 rfl rfl)
theorem dX0_count_118 : decode cX0_count 118 = .ok (.getfield 85, 3) := dk_180 0 85 (dk_at dksX0_count_5 0 rfl rfl)
theorem dX0_count_121 : decode cX0_count 121 = .ok (.iload_n 1, 1) := dk_27 (dk_at dksX0_count_5 3 rfl rfl)
theorem dX0_count_122 : decode cX0_count 122 = .ok (.bipush 10, 2) := dk_16 10 (dk_at dksX0_count_5 4 rfl rfl)
theorem dX0_count_124 : decode cX0_count 124 = .ok (.isub, 1) := dk_100 (dk_at dksX0_count_5 6 rfl rfl)
theorem dX0_count_125 : decode cX0_count 125 = .ok (.iaload, 1) := dk_46 (dk_at dksX0_count_5 7 rfl rfl)
theorem dX0_count_126 : decode cX0_count 126 = .ok (.goto 5, 3) := dk_167 0 5 (dk_at dksX0_count_5 8 rfl rfl)
theorem dX0_count_129 : decode cX0_count 129 = .ok (.bipush (-9), 2) := dk_16 247 (dk_at dksX0_count_5 11 rfl rfl)
theorem dX0_count_131 : decode cX0_count 131 = .ok (.ireturn, 1) := dk_172 (dk_at dksX0_count_5 13 rfl rfl)
abbrev cX0_numbersOf : ByteArray := prog_1_method_62_code
def yX0_numbersOf : MethodName := ⟨RX0, "numbersOf", "()I"⟩
def dkwX0_numbersOf_2 : List UInt8 := [167, 255, 220, 28, 172]
abbrev dktX0_numbersOf_2 : List UInt8 := dkwX0_numbersOf_2 ++ []
def dkwX0_numbersOf_1 : List UInt8 := [192, 0, 155, 180, 0, 160, 193, 0, 48, 153, 0, 7, 4, 167, 0, 4, 3, 96, 61, 132, 3, 1]
abbrev dktX0_numbersOf_1 : List UInt8 := dkwX0_numbersOf_1 ++ dktX0_numbersOf_2
def dkwX0_numbersOf_0 : List UInt8 := [42, 182, 0, 145, 76, 3, 61, 3, 62, 29, 43, 180, 0, 149, 162, 0, 34, 28, 43, 29, 182, 0, 152]
abbrev dktX0_numbersOf_0 : List UInt8 := dkwX0_numbersOf_0 ++ dktX0_numbersOf_1
theorem dksX0_numbersOf_0 : cX0_numbersOf.data.toList.drop 0 = dktX0_numbersOf_0 := by decide +kernel
theorem dksX0_numbersOf_1 : cX0_numbersOf.data.toList.drop 23 = dktX0_numbersOf_1 := dk_seg dksX0_numbersOf_0 23 rfl rfl
theorem dksX0_numbersOf_2 : cX0_numbersOf.data.toList.drop 45 = dktX0_numbersOf_2 := dk_seg dksX0_numbersOf_1 22 rfl rfl
theorem dX0_numbersOf_0 : decode cX0_numbersOf 0 = .ok (.aload_n 0, 1) := dk_42 (dk_at dksX0_numbersOf_0 0 rfl rfl)
theorem dX0_numbersOf_1 : decode cX0_numbersOf 1 = .ok (.invokevirtual 145, 3) := dk_182 0 145 (dk_at dksX0_numbersOf_0 1 rfl rfl)
theorem dX0_numbersOf_4 : decode cX0_numbersOf 4 = .ok (.astore_n 1, 1) := dk_76 (dk_at dksX0_numbersOf_0 4 rfl rfl)
theorem dX0_numbersOf_5 : decode cX0_numbersOf 5 = .ok (.iconst 0, 1) := dk_3 (dk_at dksX0_numbersOf_0 5 rfl rfl)
theorem dX0_numbersOf_6 : decode cX0_numbersOf 6 = .ok (.istore_n 2, 1) := dk_61 (dk_at dksX0_numbersOf_0 6 rfl rfl)
theorem dX0_numbersOf_7 : decode cX0_numbersOf 7 = .ok (.iconst 0, 1) := dk_3 (dk_at dksX0_numbersOf_0 7 rfl rfl)
theorem dX0_numbersOf_8 : decode cX0_numbersOf 8 = .ok (.istore_n 3, 1) := dk_62 (dk_at dksX0_numbersOf_0 8 rfl rfl)
theorem dX0_numbersOf_9 : decode cX0_numbersOf 9 = .ok (.iload_n 3, 1) := dk_29 (dk_at dksX0_numbersOf_0 9 rfl rfl)
theorem dX0_numbersOf_10 : decode cX0_numbersOf 10 = .ok (.aload_n 1, 1) := dk_43 (dk_at dksX0_numbersOf_0 10 rfl rfl)
theorem dX0_numbersOf_11 : decode cX0_numbersOf 11 = .ok (.getfield 149, 3) := dk_180 0 149 (dk_at dksX0_numbersOf_0 11 rfl rfl)
theorem dX0_numbersOf_14 : decode cX0_numbersOf 14 = .ok (.if_icmp .ge 34, 3) := dk_162 0 34 (dk_at dksX0_numbersOf_0 14 rfl rfl)
theorem dX0_numbersOf_17 : decode cX0_numbersOf 17 = .ok (.iload_n 2, 1) := dk_28 (dk_at dksX0_numbersOf_0 17 rfl rfl)
theorem dX0_numbersOf_18 : decode cX0_numbersOf 18 = .ok (.aload_n 1, 1) := dk_43 (dk_at dksX0_numbersOf_0 18 rfl rfl)
theorem dX0_numbersOf_19 : decode cX0_numbersOf 19 = .ok (.iload_n 3, 1) := dk_29 (dk_at dksX0_numbersOf_0 19 rfl rfl)
theorem dX0_numbersOf_20 : decode cX0_numbersOf 20 = .ok (.invokevirtual 152, 3) := dk_182 0 152 (dk_at dksX0_numbersOf_0 20 rfl rfl)
theorem dX0_numbersOf_23 : decode cX0_numbersOf 23 = .ok (.checkcast 155, 3) := dk_192 0 155 (dk_at dksX0_numbersOf_1 0 rfl rfl)
theorem dX0_numbersOf_26 : decode cX0_numbersOf 26 = .ok (.getfield 160, 3) := dk_180 0 160 (dk_at dksX0_numbersOf_1 3 rfl rfl)
theorem dX0_numbersOf_29 : decode cX0_numbersOf 29 = .ok (.instanceof 48, 3) := dk_193 0 48 (dk_at dksX0_numbersOf_1 6 rfl rfl)
theorem dX0_numbersOf_32 : decode cX0_numbersOf 32 = .ok (.ifCond .eq 7, 3) := dk_153 0 7 (dk_at dksX0_numbersOf_1 9 rfl rfl)
theorem dX0_numbersOf_35 : decode cX0_numbersOf 35 = .ok (.iconst 1, 1) := dk_4 (dk_at dksX0_numbersOf_1 12 rfl rfl)
theorem dX0_numbersOf_36 : decode cX0_numbersOf 36 = .ok (.goto 4, 3) := dk_167 0 4 (dk_at dksX0_numbersOf_1 13 rfl rfl)
theorem dX0_numbersOf_39 : decode cX0_numbersOf 39 = .ok (.iconst 0, 1) := dk_3 (dk_at dksX0_numbersOf_1 16 rfl rfl)
theorem dX0_numbersOf_40 : decode cX0_numbersOf 40 = .ok (.iadd, 1) := dk_96 (dk_at dksX0_numbersOf_1 17 rfl rfl)
theorem dX0_numbersOf_41 : decode cX0_numbersOf 41 = .ok (.istore_n 2, 1) := dk_61 (dk_at dksX0_numbersOf_1 18 rfl rfl)
theorem dX0_numbersOf_42 : decode cX0_numbersOf 42 = .ok (.iinc 3 1, 3) := dk_132 3 1 (dk_at dksX0_numbersOf_1 19 rfl rfl)
theorem dX0_numbersOf_45 : decode cX0_numbersOf 45 = .ok (.goto (-36), 3) := dk_167 255 220 (dk_at dksX0_numbersOf_2 0 rfl rfl)
theorem dX0_numbersOf_48 : decode cX0_numbersOf 48 = .ok (.iload_n 2, 1) := dk_28 (dk_at dksX0_numbersOf_2 3 rfl rfl)
theorem dX0_numbersOf_49 : decode cX0_numbersOf 49 = .ok (.ireturn, 1) := dk_172 (dk_at dksX0_numbersOf_2 4 rfl rfl)
abbrev cX0_greatestPath : ByteArray := prog_1_method_63_code
def yX0_greatestPath : MethodName := ⟨RX0, "greatestPath", "()I"⟩
def dkwX0_greatestPath_1 : List UInt8 := [192, 0, 155, 180, 0, 157, 184, 1, 196, 61, 132, 3, 1, 167, 255, 229, 28, 172]
abbrev dktX0_greatestPath_1 : List UInt8 := dkwX0_greatestPath_1 ++ []
def dkwX0_greatestPath_0 : List UInt8 := [42, 182, 0, 145, 76, 3, 61, 3, 62, 29, 43, 180, 0, 149, 162, 0, 25, 28, 43, 29, 182, 0, 152]
abbrev dktX0_greatestPath_0 : List UInt8 := dkwX0_greatestPath_0 ++ dktX0_greatestPath_1
theorem dksX0_greatestPath_0 : cX0_greatestPath.data.toList.drop 0 = dktX0_greatestPath_0 := by decide +kernel
theorem dksX0_greatestPath_1 : cX0_greatestPath.data.toList.drop 23 = dktX0_greatestPath_1 := dk_seg dksX0_greatestPath_0 23 rfl rfl
theorem dX0_greatestPath_0 : decode cX0_greatestPath 0 = .ok (.aload_n 0, 1) := dk_42 (dk_at dksX0_greatestPath_0 0 rfl rfl)
theorem dX0_greatestPath_1 : decode cX0_greatestPath 1 = .ok (.invokevirtual 145, 3) := dk_182 0 145 (dk_at dksX0_greatestPath_0 1 rfl rfl)
theorem dX0_greatestPath_4 : decode cX0_greatestPath 4 = .ok (.astore_n 1, 1) := dk_76 (dk_at dksX0_greatestPath_0 4 rfl rfl)
theorem dX0_greatestPath_5 : decode cX0_greatestPath 5 = .ok (.iconst 0, 1) := dk_3 (dk_at dksX0_greatestPath_0 5 rfl rfl)
theorem dX0_greatestPath_6 : decode cX0_greatestPath 6 = .ok (.istore_n 2, 1) := dk_61 (dk_at dksX0_greatestPath_0 6 rfl rfl)
theorem dX0_greatestPath_7 : decode cX0_greatestPath 7 = .ok (.iconst 0, 1) := dk_3 (dk_at dksX0_greatestPath_0 7 rfl rfl)
theorem dX0_greatestPath_8 : decode cX0_greatestPath 8 = .ok (.istore_n 3, 1) := dk_62 (dk_at dksX0_greatestPath_0 8 rfl rfl)
theorem dX0_greatestPath_9 : decode cX0_greatestPath 9 = .ok (.iload_n 3, 1) := dk_29 (dk_at dksX0_greatestPath_0 9 rfl rfl)
theorem dX0_greatestPath_10 : decode cX0_greatestPath 10 = .ok (.aload_n 1, 1) := dk_43 (dk_at dksX0_greatestPath_0 10 rfl rfl)
theorem dX0_greatestPath_11 : decode cX0_greatestPath 11 = .ok (.getfield 149, 3) := dk_180 0 149 (dk_at dksX0_greatestPath_0 11 rfl rfl)
theorem dX0_greatestPath_14 : decode cX0_greatestPath 14 = .ok (.if_icmp .ge 25, 3) := dk_162 0 25 (dk_at dksX0_greatestPath_0 14 rfl rfl)
theorem dX0_greatestPath_17 : decode cX0_greatestPath 17 = .ok (.iload_n 2, 1) := dk_28 (dk_at dksX0_greatestPath_0 17 rfl rfl)
theorem dX0_greatestPath_18 : decode cX0_greatestPath 18 = .ok (.aload_n 1, 1) := dk_43 (dk_at dksX0_greatestPath_0 18 rfl rfl)
theorem dX0_greatestPath_19 : decode cX0_greatestPath 19 = .ok (.iload_n 3, 1) := dk_29 (dk_at dksX0_greatestPath_0 19 rfl rfl)
theorem dX0_greatestPath_20 : decode cX0_greatestPath 20 = .ok (.invokevirtual 152, 3) := dk_182 0 152 (dk_at dksX0_greatestPath_0 20 rfl rfl)
theorem dX0_greatestPath_23 : decode cX0_greatestPath 23 = .ok (.checkcast 155, 3) := dk_192 0 155 (dk_at dksX0_greatestPath_1 0 rfl rfl)
theorem dX0_greatestPath_26 : decode cX0_greatestPath 26 = .ok (.getfield 157, 3) := dk_180 0 157 (dk_at dksX0_greatestPath_1 3 rfl rfl)
theorem dX0_greatestPath_29 : decode cX0_greatestPath 29 = .ok (.invokestatic 452, 3) := dk_184 1 196 (dk_at dksX0_greatestPath_1 6 rfl rfl)
theorem dX0_greatestPath_32 : decode cX0_greatestPath 32 = .ok (.istore_n 2, 1) := dk_61 (dk_at dksX0_greatestPath_1 9 rfl rfl)
theorem dX0_greatestPath_33 : decode cX0_greatestPath 33 = .ok (.iinc 3 1, 3) := dk_132 3 1 (dk_at dksX0_greatestPath_1 10 rfl rfl)
theorem dX0_greatestPath_36 : decode cX0_greatestPath 36 = .ok (.goto (-27), 3) := dk_167 255 229 (dk_at dksX0_greatestPath_1 13 rfl rfl)
theorem dX0_greatestPath_39 : decode cX0_greatestPath 39 = .ok (.iload_n 2, 1) := dk_28 (dk_at dksX0_greatestPath_1 16 rfl rfl)
theorem dX0_greatestPath_40 : decode cX0_greatestPath 40 = .ok (.ireturn, 1) := dk_172 (dk_at dksX0_greatestPath_1 17 rfl rfl)
theorem q138 : (Jvm.Cond.initialized "GathersAllFaults") ∈ lw_all := lw_g (lw_at lw_m1 1 rfl) rfl
theorem q186 : (Jvm.Cond.instantiable "GathersAllFaults" (17 : Nat)) ∈ lw_all := lw_g (lw_at lw_m1 49 rfl) rfl
theorem q188 : (Jvm.Cond.instanceMethod ({ cls := "GathersAllFaults", name := "<init>", desc := "()V" } : Jvm.MethodName)) ∈ lw_all := lw_g (lw_at lw_m1 51 rfl) rfl
theorem q189 : (Jvm.Cond.code ({ cls := "GathersAllFaults", name := "<init>", desc := "()V" } : Jvm.MethodName) prog_1_method_17_code (1 : Nat) (Option.none : Option Jvm.ClassFile.FieldType)) ∈ lw_all := lw_g (lw_at lw_m1 52 rfl) rfl
theorem q190 : (Jvm.Cond.methodLink "GathersAllFaults" (60 : Nat) ({ cls := "java/lang/Object", name := "<init>", desc := "()V" } : Jvm.MethodName)) ∈ lw_all := lw_g (lw_at lw_m1 53 rfl) rfl
theorem q193 : (Jvm.Cond.classLink "GathersAllFaults" (48 : Nat) "GathersAllFaults$Num") ∈ lw_all := lw_g (lw_at lw_m1 56 rfl) rfl
theorem q195 : (Jvm.Cond.methodLink "GathersAllFaults" (65 : Nat) ({ cls := "GathersAllFaults$Num", name := "<init>", desc := "(I)V" } : Jvm.MethodName)) ∈ lw_all := lw_g (lw_at lw_m1 58 rfl) rfl
theorem q203 : (Jvm.Cond.fieldLinkNest "GathersAllFaults" (50 : Nat) "GathersAllFaults$Num" "n" "I" "GathersAllFaults") ∈ lw_tbl := lw_at lw_m1 66 rfl
theorem q207 : (Jvm.Cond.classLink "GathersAllFaults" (70 : Nat) "GathersAllFaults$Compiled") ∈ lw_all := lw_g (lw_at lw_m1 70 rfl) rfl
theorem q209 : (Jvm.Cond.methodLinkNest "GathersAllFaults" (72 : Nat) ({ cls := "GathersAllFaults$Compiled", name := "<init>", desc := "()V" } : Jvm.MethodName) "GathersAllFaults") ∈ lw_tbl := lw_at lw_m1 72 rfl
theorem q228 : (Jvm.Cond.fieldLinkNest "GathersAllFaults" (479 : Nat) "GathersAllFaults$Sink" "findingMany" "I" "GathersAllFaults") ∈ lw_tbl := lw_at lw_m1 91 rfl
theorem q241 : (Jvm.Cond.fieldLinkNest "GathersAllFaults" (130 : Nat) "GathersAllFaults$Compiled" "look" "LGathersAllFaults$Look;" "GathersAllFaults") ∈ lw_tbl := lw_at lw_m1 104 rfl
theorem q243 : (Jvm.Cond.fieldLinkNest "GathersAllFaults" (137 : Nat) "GathersAllFaults$Compiled" "checks" "I" "GathersAllFaults") ∈ lw_tbl := lw_at lw_m1 106 rfl
theorem q252 : (Jvm.Cond.classLink "GathersAllFaults" (93 : Nat) "GathersAllFaults$Nothing") ∈ lw_all := lw_g (lw_at lw_m1 115 rfl) rfl
theorem q254 : (Jvm.Cond.methodLinkNest "GathersAllFaults" (95 : Nat) ({ cls := "GathersAllFaults$Nothing", name := "<init>", desc := "()V" } : Jvm.MethodName) "GathersAllFaults") ∈ lw_tbl := lw_at lw_m1 117 rfl
theorem q262 : (Jvm.Cond.classLink "GathersAllFaults" (55 : Nat) "GathersAllFaults$Value") ∈ lw_all := lw_g (lw_at lw_m1 125 rfl) rfl
theorem q265 : (Jvm.Cond.fieldLink "GathersAllFaults" (66 : Nat) "GathersAllFaults" "value0" "LGathersAllFaults$Value;") ∈ lw_all := lw_g (lw_at lw_m1 128 rfl) rfl
theorem q266 : (Jvm.Cond.fieldLink "GathersAllFaults" (73 : Nat) "GathersAllFaults" "check0" "LGathersAllFaults$Compiled;") ∈ lw_all := lw_g (lw_at lw_m1 129 rfl) rfl
theorem q267 : (Jvm.Cond.fieldLink "GathersAllFaults" (400 : Nat) "GathersAllFaults" "imagedValue" "LGathersAllFaults$Value;") ∈ lw_all := lw_g (lw_at lw_m1 130 rfl) rfl
theorem q268 : (Jvm.Cond.fieldLink "GathersAllFaults" (403 : Nat) "GathersAllFaults" "imagedCheck" "LGathersAllFaults$Compiled;") ∈ lw_all := lw_g (lw_at lw_m1 131 rfl) rfl
theorem q269 : (Jvm.Cond.fieldLink "GathersAllFaults" (396 : Nat) "GathersAllFaults" "hasImage" "Z") ∈ lw_all := lw_g (lw_at lw_m1 132 rfl) rfl
theorem q270 : (Jvm.Cond.fieldLink "GathersAllFaults" (77 : Nat) "GathersAllFaults" "row" "[B") ∈ lw_all := lw_g (lw_at lw_m1 133 rfl) rfl
theorem q271 : (Jvm.Cond.fieldLink "GathersAllFaults" (301 : Nat) "GathersAllFaults" "rowMany" "I") ∈ lw_all := lw_g (lw_at lw_m1 134 rfl) rfl
theorem q273 : (Jvm.Cond.fieldLink "GathersAllFaults" (81 : Nat) "GathersAllFaults" "letters" "[C") ∈ lw_all := lw_g (lw_at lw_m1 136 rfl) rfl
theorem q275 : (Jvm.Cond.fieldLink "GathersAllFaults" (123 : Nat) "GathersAllFaults" "letterMany" "I") ∈ lw_all := lw_g (lw_at lw_m1 138 rfl) rfl
theorem q276 : (Jvm.Cond.fieldLink "GathersAllFaults" (85 : Nat) "GathersAllFaults" "refused" "[I") ∈ lw_all := lw_g (lw_at lw_m1 139 rfl) rfl
theorem q277 : (Jvm.Cond.fieldLink "GathersAllFaults" (89 : Nat) "GathersAllFaults" "changing" "LGathersAllFaults$Num;") ∈ lw_all := lw_g (lw_at lw_m1 140 rfl) rfl
theorem q278 : (Jvm.Cond.fieldLink "GathersAllFaults" (96 : Nat) "GathersAllFaults" "nothing" "LGathersAllFaults$Nothing;") ∈ lw_all := lw_g (lw_at lw_m1 141 rfl) rfl
theorem q279 : (Jvm.Cond.fieldLink "GathersAllFaults" (308 : Nat) "GathersAllFaults" "lot" "I") ∈ lw_all := lw_g (lw_at lw_m1 142 rfl) rfl
theorem q280 : (Jvm.Cond.fieldLink "GathersAllFaults" (314 : Nat) "GathersAllFaults" "skip" "I") ∈ lw_all := lw_g (lw_at lw_m1 143 rfl) rfl
theorem q281 : (Jvm.Cond.fieldLink "GathersAllFaults" (100 : Nat) "GathersAllFaults" "hurtPaths" "[I") ∈ lw_all := lw_g (lw_at lw_m1 144 rfl) rfl
theorem q282 : (Jvm.Cond.fieldLink "GathersAllFaults" (103 : Nat) "GathersAllFaults" "hurtWas" "[LGathersAllFaults$Value;") ∈ lw_all := lw_g (lw_at lw_m1 145 rfl) rfl
theorem q283 : (Jvm.Cond.fieldLink "GathersAllFaults" (107 : Nat) "GathersAllFaults" "hurtTo" "[LGathersAllFaults$Num;") ∈ lw_all := lw_g (lw_at lw_m1 146 rfl) rfl
theorem q284 : (Jvm.Cond.lays "GathersAllFaults" "GathersAllFaults" "value0" "LGathersAllFaults$Value;") ∈ lw_all := lw_g (lw_at lw_m1 147 rfl) rfl
theorem q285 : (Jvm.Cond.soleField "GathersAllFaults" "value0") ∈ lw_all := lw_g (lw_at lw_m1 148 rfl) rfl
theorem q286 : (Jvm.Cond.lays "GathersAllFaults" "GathersAllFaults" "check0" "LGathersAllFaults$Compiled;") ∈ lw_all := lw_g (lw_at lw_m1 149 rfl) rfl
theorem q287 : (Jvm.Cond.soleField "GathersAllFaults" "check0") ∈ lw_all := lw_g (lw_at lw_m1 150 rfl) rfl
theorem q288 : (Jvm.Cond.lays "GathersAllFaults" "GathersAllFaults" "imagedValue" "LGathersAllFaults$Value;") ∈ lw_all := lw_g (lw_at lw_m1 151 rfl) rfl
theorem q289 : (Jvm.Cond.soleField "GathersAllFaults" "imagedValue") ∈ lw_all := lw_g (lw_at lw_m1 152 rfl) rfl
theorem q290 : (Jvm.Cond.lays "GathersAllFaults" "GathersAllFaults" "imagedCheck" "LGathersAllFaults$Compiled;") ∈ lw_all := lw_g (lw_at lw_m1 153 rfl) rfl
theorem q291 : (Jvm.Cond.soleField "GathersAllFaults" "imagedCheck") ∈ lw_all := lw_g (lw_at lw_m1 154 rfl) rfl
theorem q292 : (Jvm.Cond.lays "GathersAllFaults" "GathersAllFaults" "hasImage" "Z") ∈ lw_all := lw_g (lw_at lw_m1 155 rfl) rfl
theorem q293 : (Jvm.Cond.soleField "GathersAllFaults" "hasImage") ∈ lw_all := lw_g (lw_at lw_m1 156 rfl) rfl
theorem q294 : (Jvm.Cond.laysFinal "GathersAllFaults" "GathersAllFaults" "row" "[B") ∈ lw_all := lw_g (lw_at lw_m1 157 rfl) rfl
theorem q295 : (Jvm.Cond.soleField "GathersAllFaults" "row") ∈ lw_all := lw_g (lw_at lw_m1 158 rfl) rfl
theorem q296 : (Jvm.Cond.lays "GathersAllFaults" "GathersAllFaults" "rowMany" "I") ∈ lw_all := lw_g (lw_at lw_m1 159 rfl) rfl
theorem q297 : (Jvm.Cond.soleField "GathersAllFaults" "rowMany") ∈ lw_all := lw_g (lw_at lw_m1 160 rfl) rfl
theorem q298 : (Jvm.Cond.laysFinal "GathersAllFaults" "GathersAllFaults" "letters" "[C") ∈ lw_all := lw_g (lw_at lw_m1 161 rfl) rfl
theorem q299 : (Jvm.Cond.soleField "GathersAllFaults" "letters") ∈ lw_all := lw_g (lw_at lw_m1 162 rfl) rfl
theorem q300 : (Jvm.Cond.lays "GathersAllFaults" "GathersAllFaults" "letterMany" "I") ∈ lw_all := lw_g (lw_at lw_m1 163 rfl) rfl
theorem q301 : (Jvm.Cond.soleField "GathersAllFaults" "letterMany") ∈ lw_all := lw_g (lw_at lw_m1 164 rfl) rfl
theorem q302 : (Jvm.Cond.laysFinal "GathersAllFaults" "GathersAllFaults" "refused" "[I") ∈ lw_all := lw_g (lw_at lw_m1 165 rfl) rfl
theorem q303 : (Jvm.Cond.soleField "GathersAllFaults" "refused") ∈ lw_all := lw_g (lw_at lw_m1 166 rfl) rfl
theorem q304 : (Jvm.Cond.laysFinal "GathersAllFaults" "GathersAllFaults" "changing" "LGathersAllFaults$Num;") ∈ lw_all := lw_g (lw_at lw_m1 167 rfl) rfl
theorem q305 : (Jvm.Cond.soleField "GathersAllFaults" "changing") ∈ lw_all := lw_g (lw_at lw_m1 168 rfl) rfl
theorem q306 : (Jvm.Cond.laysFinal "GathersAllFaults" "GathersAllFaults" "nothing" "LGathersAllFaults$Nothing;") ∈ lw_all := lw_g (lw_at lw_m1 169 rfl) rfl
theorem q307 : (Jvm.Cond.soleField "GathersAllFaults" "nothing") ∈ lw_all := lw_g (lw_at lw_m1 170 rfl) rfl
theorem q308 : (Jvm.Cond.lays "GathersAllFaults" "GathersAllFaults" "lot" "I") ∈ lw_all := lw_g (lw_at lw_m1 171 rfl) rfl
theorem q309 : (Jvm.Cond.soleField "GathersAllFaults" "lot") ∈ lw_all := lw_g (lw_at lw_m1 172 rfl) rfl
theorem q310 : (Jvm.Cond.lays "GathersAllFaults" "GathersAllFaults" "skip" "I") ∈ lw_all := lw_g (lw_at lw_m1 173 rfl) rfl
theorem q311 : (Jvm.Cond.soleField "GathersAllFaults" "skip") ∈ lw_all := lw_g (lw_at lw_m1 174 rfl) rfl
theorem q312 : (Jvm.Cond.laysFinal "GathersAllFaults" "GathersAllFaults" "hurtPaths" "[I") ∈ lw_all := lw_g (lw_at lw_m1 175 rfl) rfl
theorem q313 : (Jvm.Cond.soleField "GathersAllFaults" "hurtPaths") ∈ lw_all := lw_g (lw_at lw_m1 176 rfl) rfl
theorem q314 : (Jvm.Cond.laysFinal "GathersAllFaults" "GathersAllFaults" "hurtWas" "[LGathersAllFaults$Value;") ∈ lw_all := lw_g (lw_at lw_m1 177 rfl) rfl
theorem q315 : (Jvm.Cond.soleField "GathersAllFaults" "hurtWas") ∈ lw_all := lw_g (lw_at lw_m1 178 rfl) rfl
theorem q316 : (Jvm.Cond.laysFinal "GathersAllFaults" "GathersAllFaults" "hurtTo" "[LGathersAllFaults$Num;") ∈ lw_all := lw_g (lw_at lw_m1 179 rfl) rfl
theorem q317 : (Jvm.Cond.soleField "GathersAllFaults" "hurtTo") ∈ lw_all := lw_g (lw_at lw_m1 180 rfl) rfl
theorem q318 : (Jvm.Cond.superclass "GathersAllFaults" "java/lang/Object") ∈ lw_all := lw_g (lw_at lw_m1 181 rfl) rfl
theorem q320 : (Jvm.Cond.instanceMethod ({ cls := "GathersAllFaults", name := "letter", desc := "(I)I" } : Jvm.MethodName)) ∈ lw_all := lw_g (lw_at lw_m1 183 rfl) rfl
theorem q321 : (Jvm.Cond.selects "GathersAllFaults" ({ cls := "GathersAllFaults", name := "letter", desc := "(I)I" } : Jvm.MethodName) ({ cls := "GathersAllFaults", name := "letter", desc := "(I)I" } : Jvm.MethodName)) ∈ lw_all := lw_g (lw_at lw_m1 184 rfl) rfl
theorem q322 : (Jvm.Cond.code ({ cls := "GathersAllFaults", name := "letter", desc := "(I)I" } : Jvm.MethodName) prog_1_method_64_code (2 : Nat) (Option.some Jvm.ClassFile.FieldType.int)) ∈ lw_all := lw_g (lw_at lw_m1 185 rfl) rfl
theorem q323 : (Jvm.Cond.methodLink "GathersAllFaults" (455 : Nat) ({ cls := "GathersAllFaults", name := "act", desc := "(IIII)I" } : Jvm.MethodName)) ∈ lw_all := lw_g (lw_at lw_m1 186 rfl) rfl
theorem q324 : (Jvm.Cond.privateMethod ({ cls := "GathersAllFaults", name := "act", desc := "(IIII)I" } : Jvm.MethodName)) ∈ lw_tbl := lw_at lw_m1 187 rfl
theorem q325 : (Jvm.Cond.instanceMethod ({ cls := "GathersAllFaults", name := "act", desc := "(IIII)I" } : Jvm.MethodName)) ∈ lw_all := lw_g (lw_at lw_m1 188 rfl) rfl
theorem q326 : (Jvm.Cond.codeWith ({ cls := "GathersAllFaults", name := "act", desc := "(IIII)I" } : Jvm.MethodName) prog_1_method_48_code (6 : Nat) (Option.some Jvm.ClassFile.FieldType.int) [((0 : Nat), (25 : Nat), (26 : Nat), (342 : Nat))]) ∈ lw_all := lw_g (lw_at lw_m1 189 rfl) rfl
theorem q327 : (Jvm.Cond.classLink "GathersAllFaults" (342 : Nat) "GathersAllFaults$Refusal") ∈ lw_all := lw_g (lw_at lw_m1 190 rfl) rfl
theorem q328 : (Jvm.Cond.methodLink "GathersAllFaults" (334 : Nat) ({ cls := "GathersAllFaults", name := "ofFaults", desc := "(III)I" } : Jvm.MethodName)) ∈ lw_all := lw_g (lw_at lw_m1 191 rfl) rfl
theorem q329 : (Jvm.Cond.privateMethod ({ cls := "GathersAllFaults", name := "ofFaults", desc := "(III)I" } : Jvm.MethodName)) ∈ lw_tbl := lw_at lw_m1 192 rfl
theorem q330 : (Jvm.Cond.instanceMethod ({ cls := "GathersAllFaults", name := "ofFaults", desc := "(III)I" } : Jvm.MethodName)) ∈ lw_all := lw_g (lw_at lw_m1 193 rfl) rfl
theorem q331 : (Jvm.Cond.code ({ cls := "GathersAllFaults", name := "ofFaults", desc := "(III)I" } : Jvm.MethodName) prog_1_method_54_code (4 : Nat) (Option.some Jvm.ClassFile.FieldType.int)) ∈ lw_all := lw_g (lw_at lw_m1 194 rfl) rfl
theorem q332 : (Jvm.Cond.methodLink "GathersAllFaults" (360 : Nat) ({ cls := "GathersAllFaults", name := "letterIt", desc := "(I)I" } : Jvm.MethodName)) ∈ lw_all := lw_g (lw_at lw_m1 195 rfl) rfl
theorem q333 : (Jvm.Cond.privateMethod ({ cls := "GathersAllFaults", name := "letterIt", desc := "(I)I" } : Jvm.MethodName)) ∈ lw_tbl := lw_at lw_m1 196 rfl
theorem q334 : (Jvm.Cond.instanceMethod ({ cls := "GathersAllFaults", name := "letterIt", desc := "(I)I" } : Jvm.MethodName)) ∈ lw_all := lw_g (lw_at lw_m1 197 rfl) rfl
theorem q335 : (Jvm.Cond.code ({ cls := "GathersAllFaults", name := "letterIt", desc := "(I)I" } : Jvm.MethodName) prog_1_method_51_code (2 : Nat) (Option.some Jvm.ClassFile.FieldType.int)) ∈ lw_all := lw_g (lw_at lw_m1 198 rfl) rfl
theorem q336 : (Jvm.Cond.constantLong "GathersAllFaults" (352 : Nat) (255 : Int64)) ∈ lw_all := lw_g (lw_at lw_m1 199 rfl) rfl
theorem q337 : (Jvm.Cond.methodLink "GathersAllFaults" (184 : Nat) ({ cls := "GathersAllFaults", name := "within", desc := "(JJJ)V" } : Jvm.MethodName)) ∈ lw_all := lw_g (lw_at lw_m1 200 rfl) rfl
theorem q338 : (Jvm.Cond.static ({ cls := "GathersAllFaults", name := "within", desc := "(JJJ)V" } : Jvm.MethodName)) ∈ lw_all := lw_g (lw_at lw_m1 201 rfl) rfl
theorem q339 : (Jvm.Cond.code ({ cls := "GathersAllFaults", name := "within", desc := "(JJJ)V" } : Jvm.MethodName) prog_1_method_3_code (6 : Nat) (Option.none : Option Jvm.ClassFile.FieldType)) ∈ lw_all := lw_g (lw_at lw_m1 202 rfl) rfl
theorem q340 : (Jvm.Cond.methodLink "GathersAllFaults" (9 : Nat) ({ cls := "GathersAllFaults", name := "must", desc := "(ZI)V" } : Jvm.MethodName)) ∈ lw_all := lw_g (lw_at lw_m1 203 rfl) rfl
theorem q341 : (Jvm.Cond.static ({ cls := "GathersAllFaults", name := "must", desc := "(ZI)V" } : Jvm.MethodName)) ∈ lw_all := lw_g (lw_at lw_m1 204 rfl) rfl
theorem q342 : (Jvm.Cond.code ({ cls := "GathersAllFaults", name := "must", desc := "(ZI)V" } : Jvm.MethodName) prog_1_method_2_code (2 : Nat) (Option.none : Option Jvm.ClassFile.FieldType)) ∈ lw_all := lw_g (lw_at lw_m1 205 rfl) rfl
theorem q343 : (Jvm.Cond.classLink "GathersAllFaults" (1 : Nat) "GathersAllFaults$Refused") ∈ lw_all := lw_g (lw_at lw_m1 206 rfl) rfl
theorem q385 : (Jvm.Cond.methodLink "GathersAllFaults" (3 : Nat) ({ cls := "GathersAllFaults$Refused", name := "<init>", desc := "(I)V" } : Jvm.MethodName)) ∈ lw_all := lw_g (lw_at lw_m2 8 rfl) rfl
theorem q414 : (Jvm.Cond.methodLink "GathersAllFaults" (363 : Nat) ({ cls := "GathersAllFaults", name := "readValue", desc := "()I" } : Jvm.MethodName)) ∈ lw_all := lw_g (lw_at lw_m2 37 rfl) rfl
theorem q415 : (Jvm.Cond.privateMethod ({ cls := "GathersAllFaults", name := "readValue", desc := "()I" } : Jvm.MethodName)) ∈ lw_tbl := lw_at lw_m2 38 rfl
theorem q416 : (Jvm.Cond.instanceMethod ({ cls := "GathersAllFaults", name := "readValue", desc := "()I" } : Jvm.MethodName)) ∈ lw_all := lw_g (lw_at lw_m2 39 rfl) rfl
theorem q417 : (Jvm.Cond.codeWith ({ cls := "GathersAllFaults", name := "readValue", desc := "()I" } : Jvm.MethodName) prog_1_method_18_code (5 : Nat) (Option.some Jvm.ClassFile.FieldType.int) [((0 : Nat), (29 : Nat), (36 : Nat), (0 : Nat)), ((36 : Nat), (38 : Nat), (36 : Nat), (0 : Nat))]) ∈ lw_all := lw_g (lw_at lw_m2 40 rfl) rfl
theorem q418 : (Jvm.Cond.classLink "GathersAllFaults" (111 : Nat) "GathersAllFaults$Reader") ∈ lw_all := lw_g (lw_at lw_m2 41 rfl) rfl
theorem q420 : (Jvm.Cond.methodLinkNest "GathersAllFaults" (113 : Nat) ({ cls := "GathersAllFaults$Reader", name := "<init>", desc := "(LGathersAllFaults;)V" } : Jvm.MethodName) "GathersAllFaults") ∈ lw_tbl := lw_at lw_m2 43 rfl
theorem q429 : (Jvm.Cond.fieldLinkNest "GathersAllFaults" (134 : Nat) "GathersAllFaults$Reader" "checks" "I" "GathersAllFaults") ∈ lw_tbl := lw_at lw_m2 52 rfl
theorem q448 : (Jvm.Cond.methodLink "GathersAllFaults" (116 : Nat) ({ cls := "GathersAllFaults$Reader", name := "value", desc := "(I)LGathersAllFaults$Value;" } : Jvm.MethodName)) ∈ lw_all := lw_g (lw_at lw_m2 71 rfl) rfl
theorem q466 : (Jvm.Cond.static ({ cls := "GathersAllFaults", name := "in", desc := "(JJJ)Z" } : Jvm.MethodName)) ∈ lw_all := lw_g (lw_at lw_m2 89 rfl) rfl
theorem q467 : (Jvm.Cond.code ({ cls := "GathersAllFaults", name := "in", desc := "(JJJ)Z" } : Jvm.MethodName) prog_1_method_1_code (6 : Nat) (Option.some Jvm.ClassFile.FieldType.boolean)) ∈ lw_all := lw_g (lw_at lw_m2 90 rfl) rfl
theorem q606 : (Jvm.Cond.selects "GathersAllFaults" ({ cls := "java/lang/Object", name := "hashCode", desc := "()I" } : Jvm.MethodName) ({ cls := "java/lang/Object", name := "hashCode", desc := "()I" } : Jvm.MethodName)) ∈ lw_all := lw_g (lw_at lw_m2 229 rfl) rfl
theorem q668 : (Jvm.Cond.selects "GathersAllFaults" ({ cls := "java/lang/Object", name := "equals", desc := "(Ljava/lang/Object;)Z" } : Jvm.MethodName) ({ cls := "java/lang/Object", name := "equals", desc := "(Ljava/lang/Object;)Z" } : Jvm.MethodName)) ∈ lw_all := lw_g (lw_at lw_m3 51 rfl) rfl
theorem q751 : (Jvm.Cond.selects "GathersAllFaults" ({ cls := "java/lang/Object", name := "getClass", desc := "()Ljava/lang/Class;" } : Jvm.MethodName) ({ cls := "java/lang/Object", name := "getClass", desc := "()Ljava/lang/Class;" } : Jvm.MethodName)) ∈ lw_all := lw_g (lw_at lw_m3 134 rfl) rfl
theorem q1191 : (Jvm.Cond.fieldLinkNest "GathersAllFaults" (198 : Nat) "GathersAllFaults$Rec" "fields" "Ljava/util/LinkedHashMap;" "GathersAllFaults") ∈ lw_tbl := lw_at lw_m5 94 rfl
theorem q1194 : (Jvm.Cond.fieldLinkNest "GathersAllFaults" (317 : Nat) "GathersAllFaults$Rec" "steps" "[I" "GathersAllFaults") ∈ lw_tbl := lw_at lw_m5 97 rfl
theorem q1219 : (Jvm.Cond.fieldLinkNest "GathersAllFaults" (215 : Nat) "GathersAllFaults$Lst" "elements" "[LGathersAllFaults$Value;" "GathersAllFaults") ∈ lw_tbl := lw_at lw_m5 122 rfl
theorem q1223 : (Jvm.Cond.methodLinkNest "GathersAllFaults" (120 : Nat) ({ cls := "GathersAllFaults$Reader", name := "end", desc := "()V" } : Jvm.MethodName) "GathersAllFaults") ∈ lw_tbl := lw_at lw_m5 126 rfl
theorem q1227 : (Jvm.Cond.methodLink "GathersAllFaults" (54 : Nat) ({ cls := "GathersAllFaults$Value", name := "size", desc := "()I" } : Jvm.MethodName)) ∈ lw_all := lw_g (lw_at lw_m5 130 rfl) rfl
theorem q1244 : (Jvm.Cond.methodLink "GathersAllFaults" (366 : Nat) ({ cls := "GathersAllFaults", name := "readCheck", desc := "()I" } : Jvm.MethodName)) ∈ lw_all := lw_g (lw_at lw_m5 147 rfl) rfl
theorem q1245 : (Jvm.Cond.privateMethod ({ cls := "GathersAllFaults", name := "readCheck", desc := "()I" } : Jvm.MethodName)) ∈ lw_tbl := lw_at lw_m5 148 rfl
theorem q1246 : (Jvm.Cond.instanceMethod ({ cls := "GathersAllFaults", name := "readCheck", desc := "()I" } : Jvm.MethodName)) ∈ lw_all := lw_g (lw_at lw_m5 149 rfl) rfl
theorem q1247 : (Jvm.Cond.codeWith ({ cls := "GathersAllFaults", name := "readCheck", desc := "()I" } : Jvm.MethodName) prog_1_method_19_code (5 : Nat) (Option.some Jvm.ClassFile.FieldType.int) [((0 : Nat), (49 : Nat), (56 : Nat), (0 : Nat)), ((56 : Nat), (58 : Nat), (56 : Nat), (0 : Nat))]) ∈ lw_all := lw_g (lw_at lw_m5 150 rfl) rfl
theorem q1248 : (Jvm.Cond.methodLink "GathersAllFaults" (126 : Nat) ({ cls := "GathersAllFaults$Reader", name := "check", desc := "(LGathersAllFaults$Compiled;Z)LGathersAllFaults$Look;" } : Jvm.MethodName)) ∈ lw_all := lw_g (lw_at lw_m5 151 rfl) rfl
theorem q1257 : (Jvm.Cond.static ({ cls := "GathersAllFaults", name := "numberLook", desc := "(II)LGathersAllFaults$Look;" } : Jvm.MethodName)) ∈ lw_all := lw_g (lw_at lw_m5 160 rfl) rfl
theorem q1258 : (Jvm.Cond.code ({ cls := "GathersAllFaults", name := "numberLook", desc := "(II)LGathersAllFaults$Look;" } : Jvm.MethodName) prog_1_method_11_code (2 : Nat) (Option.some (Jvm.ClassFile.FieldType.object "GathersAllFaults$Look"))) ∈ lw_all := lw_g (lw_at lw_m5 161 rfl) rfl
theorem q1259 : (Jvm.Cond.static ({ cls := "GathersAllFaults", name := "lambda$numberLook$0", desc := "(IILGathersAllFaults$Value;ILGathersAllFaults$Finding;)V" } : Jvm.MethodName)) ∈ lw_all := lw_g (lw_at lw_m5 162 rfl) rfl
theorem q1260 : (Jvm.Cond.code ({ cls := "GathersAllFaults", name := "lambda$numberLook$0", desc := "(IILGathersAllFaults$Value;ILGathersAllFaults$Finding;)V" } : Jvm.MethodName) prog_1_method_99_code (6 : Nat) (Option.none : Option Jvm.ClassFile.FieldType)) ∈ lw_all := lw_g (lw_at lw_m5 163 rfl) rfl
theorem q1261 : (Jvm.Cond.methodLink "GathersAllFaults" (494 : Nat) ({ cls := "GathersAllFaults$Finding", name := "finds", desc := "(II)V" } : Jvm.MethodName)) ∈ lw_all := lw_g (lw_at lw_m5 164 rfl) rfl
theorem q1276 : (Jvm.Cond.fieldLinkNest "GathersAllFaults" (234 : Nat) "GathersAllFaults$Found" "path" "I" "GathersAllFaults") ∈ lw_tbl := lw_at lw_m5 179 rfl
theorem q1278 : (Jvm.Cond.fieldLinkNest "GathersAllFaults" (235 : Nat) "GathersAllFaults$Found" "code" "I" "GathersAllFaults") ∈ lw_tbl := lw_at lw_m5 181 rfl
theorem q1295 : (Jvm.Cond.methodLink "GathersAllFaults" (13 : Nat) ({ cls := "GathersAllFaults", name := "in", desc := "(JJJ)Z" } : Jvm.MethodName)) ∈ lw_all := lw_g (lw_at lw_m5 198 rfl) rfl
theorem q1298 : (Jvm.Cond.static ({ cls := "GathersAllFaults", name := "thereLook", desc := "(ZLGathersAllFaults$Look;)LGathersAllFaults$Look;" } : Jvm.MethodName)) ∈ lw_all := lw_g (lw_at lw_m5 201 rfl) rfl
theorem q1299 : (Jvm.Cond.code ({ cls := "GathersAllFaults", name := "thereLook", desc := "(ZLGathersAllFaults$Look;)LGathersAllFaults$Look;" } : Jvm.MethodName) prog_1_method_12_code (2 : Nat) (Option.some (Jvm.ClassFile.FieldType.object "GathersAllFaults$Look"))) ∈ lw_all := lw_g (lw_at lw_m5 202 rfl) rfl
theorem q1300 : (Jvm.Cond.static ({ cls := "GathersAllFaults", name := "lambda$thereLook$1", desc := "(LGathersAllFaults$Look;ZLGathersAllFaults$Value;ILGathersAllFaults$Finding;)V" } : Jvm.MethodName)) ∈ lw_all := lw_g (lw_at lw_m5 203 rfl) rfl
theorem q1301 : (Jvm.Cond.code ({ cls := "GathersAllFaults", name := "lambda$thereLook$1", desc := "(LGathersAllFaults$Look;ZLGathersAllFaults$Value;ILGathersAllFaults$Finding;)V" } : Jvm.MethodName) prog_1_method_98_code (5 : Nat) (Option.none : Option Jvm.ClassFile.FieldType)) ∈ lw_all := lw_g (lw_at lw_m5 204 rfl) rfl
theorem q1302 : (Jvm.Cond.interfaceEntry "GathersAllFaults" (27 : Nat)) ∈ lw_tbl := lw_at lw_m5 205 rfl
theorem q1303 : (Jvm.Cond.methodLink "GathersAllFaults" (27 : Nat) ({ cls := "GathersAllFaults$Look", name := "at", desc := "(LGathersAllFaults$Value;ILGathersAllFaults$Finding;)V" } : Jvm.MethodName)) ∈ lw_all := lw_g (lw_at lw_m5 206 rfl) rfl
theorem q1362 : (Jvm.Cond.static ({ cls := "GathersAllFaults", name := "isLess", desc := "(LGathersAllFaults$Value;LGathersAllFaults$Value;)Z" } : Jvm.MethodName)) ∈ lw_all := lw_g (lw_at lw_m6 25 rfl) rfl
theorem q1363 : (Jvm.Cond.code ({ cls := "GathersAllFaults", name := "isLess", desc := "(LGathersAllFaults$Value;LGathersAllFaults$Value;)Z" } : Jvm.MethodName) prog_1_method_16_code (4 : Nat) (Option.some Jvm.ClassFile.FieldType.boolean)) ∈ lw_all := lw_g (lw_at lw_m6 26 rfl) rfl
theorem q1420 : (Jvm.Cond.fieldLinkNest "GathersAllFaults" (149 : Nat) "GathersAllFaults$Row" "many" "I" "GathersAllFaults") ∈ lw_tbl := lw_at lw_m6 83 rfl
theorem q1428 : (Jvm.Cond.fieldLinkNest "GathersAllFaults" (475 : Nat) "GathersAllFaults$Finding" "sink" "LGathersAllFaults$Sink;" "GathersAllFaults") ∈ lw_tbl := lw_at lw_m6 91 rfl
theorem q1430 : (Jvm.Cond.fieldLinkNest "GathersAllFaults" (221 : Nat) "GathersAllFaults$Finding" "row" "LGathersAllFaults$Row;" "GathersAllFaults") ∈ lw_tbl := lw_at lw_m6 93 rfl
theorem q1433 : (Jvm.Cond.fieldLinkNest "GathersAllFaults" (384 : Nat) "GathersAllFaults$Finding" "waiting" "I" "GathersAllFaults") ∈ lw_tbl := lw_at lw_m6 96 rfl
theorem q1526 : (Jvm.Cond.static ({ cls := "GathersAllFaults", name := "isBelow", desc := "(II)Z" } : Jvm.MethodName)) ∈ lw_all := lw_g (lw_at lw_m6 189 rfl) rfl
theorem q1527 : (Jvm.Cond.code ({ cls := "GathersAllFaults", name := "isBelow", desc := "(II)Z" } : Jvm.MethodName) prog_1_method_9_code (3 : Nat) (Option.some Jvm.ClassFile.FieldType.boolean)) ∈ lw_all := lw_g (lw_at lw_m6 190 rfl) rfl
theorem q1542 : (Jvm.Cond.static ({ cls := "GathersAllFaults", name := "listLook", desc := "(IILGathersAllFaults$Look;)LGathersAllFaults$Look;" } : Jvm.MethodName)) ∈ lw_all := lw_g (lw_at lw_m6 205 rfl) rfl
theorem q1543 : (Jvm.Cond.code ({ cls := "GathersAllFaults", name := "listLook", desc := "(IILGathersAllFaults$Look;)LGathersAllFaults$Look;" } : Jvm.MethodName) prog_1_method_13_code (3 : Nat) (Option.some (Jvm.ClassFile.FieldType.object "GathersAllFaults$Look"))) ∈ lw_all := lw_g (lw_at lw_m6 206 rfl) rfl
theorem q1544 : (Jvm.Cond.static ({ cls := "GathersAllFaults", name := "lambda$listLook$2", desc := "(IILGathersAllFaults$Look;LGathersAllFaults$Value;ILGathersAllFaults$Finding;)V" } : Jvm.MethodName)) ∈ lw_all := lw_g (lw_at lw_m6 207 rfl) rfl
theorem q1545 : (Jvm.Cond.code ({ cls := "GathersAllFaults", name := "lambda$listLook$2", desc := "(IILGathersAllFaults$Look;LGathersAllFaults$Value;ILGathersAllFaults$Finding;)V" } : Jvm.MethodName) prog_1_method_97_code (8 : Nat) (Option.none : Option Jvm.ClassFile.FieldType)) ∈ lw_all := lw_g (lw_at lw_m6 208 rfl) rfl
theorem q1546 : (Jvm.Cond.classLink "GathersAllFaults" (213 : Nat) "GathersAllFaults$Lst") ∈ lw_all := lw_g (lw_at lw_m6 209 rfl) rfl
theorem q1547 : (Jvm.Cond.methodLink "GathersAllFaults" (325 : Nat) ({ cls := "GathersAllFaults$Lst", name := "many", desc := "()I" } : Jvm.MethodName)) ∈ lw_all := lw_g (lw_at lw_m6 210 rfl) rfl
theorem q1552 : (Jvm.Cond.static ({ cls := "GathersAllFaults", name := "onceLook", desc := "(LGathersAllFaults$Look;)LGathersAllFaults$Look;" } : Jvm.MethodName)) ∈ lw_all := lw_g (lw_at lw_m6 215 rfl) rfl
theorem q1553 : (Jvm.Cond.code ({ cls := "GathersAllFaults", name := "onceLook", desc := "(LGathersAllFaults$Look;)LGathersAllFaults$Look;" } : Jvm.MethodName) prog_1_method_14_code (1 : Nat) (Option.some (Jvm.ClassFile.FieldType.object "GathersAllFaults$Look"))) ∈ lw_all := lw_g (lw_at lw_m6 216 rfl) rfl
theorem q1554 : (Jvm.Cond.static ({ cls := "GathersAllFaults", name := "lambda$onceLook$3", desc := "(LGathersAllFaults$Look;LGathersAllFaults$Value;ILGathersAllFaults$Finding;)V" } : Jvm.MethodName)) ∈ lw_all := lw_g (lw_at lw_m6 217 rfl) rfl
theorem q1555 : (Jvm.Cond.code ({ cls := "GathersAllFaults", name := "lambda$onceLook$3", desc := "(LGathersAllFaults$Look;LGathersAllFaults$Value;ILGathersAllFaults$Finding;)V" } : Jvm.MethodName) prog_1_method_96_code (8 : Nat) (Option.none : Option Jvm.ClassFile.FieldType)) ∈ lw_all := lw_g (lw_at lw_m6 218 rfl) rfl
theorem q1556 : (Jvm.Cond.methodLink "GathersAllFaults" (482 : Nat) ({ cls := "GathersAllFaults", name := "by", desc := "(LGathersAllFaults$Look;LGathersAllFaults$Value;ILGathersAllFaults$Sink;)LGathersAllFaults$Finding;" } : Jvm.MethodName)) ∈ lw_all := lw_g (lw_at lw_m6 219 rfl) rfl
theorem q1557 : (Jvm.Cond.static ({ cls := "GathersAllFaults", name := "by", desc := "(LGathersAllFaults$Look;LGathersAllFaults$Value;ILGathersAllFaults$Sink;)LGathersAllFaults$Finding;" } : Jvm.MethodName)) ∈ lw_all := lw_g (lw_at lw_m6 220 rfl) rfl
theorem q1558 : (Jvm.Cond.code ({ cls := "GathersAllFaults", name := "by", desc := "(LGathersAllFaults$Look;LGathersAllFaults$Value;ILGathersAllFaults$Sink;)LGathersAllFaults$Finding;" } : Jvm.MethodName) prog_1_method_10_code (5 : Nat) (Option.some (Jvm.ClassFile.FieldType.object "GathersAllFaults$Finding"))) ∈ lw_all := lw_g (lw_at lw_m6 221 rfl) rfl
theorem q1559 : (Jvm.Cond.methodLink "GathersAllFaults" (21 : Nat) ({ cls := "GathersAllFaults$Sink", name := "finding", desc := "()LGathersAllFaults$Finding;" } : Jvm.MethodName)) ∈ lw_all := lw_g (lw_at lw_m6 222 rfl) rfl
theorem q1560 : (Jvm.Cond.methodLink "GathersAllFaults" (293 : Nat) ({ cls := "GathersAllFaults$Finding", name := "isNone", desc := "()Z" } : Jvm.MethodName)) ∈ lw_all := lw_g (lw_at lw_m6 223 rfl) rfl
theorem q1564 : (Jvm.Cond.methodLink "GathersAllFaults" (490 : Nat) ({ cls := "GathersAllFaults$Lst", name := "isAhead", desc := "(I)Z" } : Jvm.MethodName)) ∈ lw_all := lw_g (lw_at lw_m6 227 rfl) rfl
theorem q1568 : (Jvm.Cond.methodLink "GathersAllFaults" (486 : Nat) ({ cls := "GathersAllFaults$Finding", name := "and", desc := "(LGathersAllFaults$Finding;)LGathersAllFaults$Finding;" } : Jvm.MethodName)) ∈ lw_all := lw_g (lw_at lw_m6 231 rfl) rfl
theorem q1570 : (Jvm.Cond.static ({ cls := "GathersAllFaults", name := "eitherLook", desc := "(LGathersAllFaults$Look;LGathersAllFaults$Look;)LGathersAllFaults$Look;" } : Jvm.MethodName)) ∈ lw_all := lw_g (lw_at lw_m6 233 rfl) rfl
theorem q1571 : (Jvm.Cond.code ({ cls := "GathersAllFaults", name := "eitherLook", desc := "(LGathersAllFaults$Look;LGathersAllFaults$Look;)LGathersAllFaults$Look;" } : Jvm.MethodName) prog_1_method_15_code (2 : Nat) (Option.some (Jvm.ClassFile.FieldType.object "GathersAllFaults$Look"))) ∈ lw_all := lw_g (lw_at lw_m6 234 rfl) rfl
theorem q1572 : (Jvm.Cond.static ({ cls := "GathersAllFaults", name := "lambda$eitherLook$4", desc := "(LGathersAllFaults$Look;LGathersAllFaults$Look;LGathersAllFaults$Value;ILGathersAllFaults$Finding;)V" } : Jvm.MethodName)) ∈ lw_all := lw_g (lw_at lw_m6 235 rfl) rfl
theorem q1573 : (Jvm.Cond.code ({ cls := "GathersAllFaults", name := "lambda$eitherLook$4", desc := "(LGathersAllFaults$Look;LGathersAllFaults$Look;LGathersAllFaults$Value;ILGathersAllFaults$Finding;)V" } : Jvm.MethodName) prog_1_method_95_code (8 : Nat) (Option.none : Option Jvm.ClassFile.FieldType)) ∈ lw_all := lw_g (lw_at lw_m6 236 rfl) rfl
theorem q1585 : (Jvm.Cond.methodLink "GathersAllFaults" (369 : Nat) ({ cls := "GathersAllFaults", name := "partAsked", desc := "(II)I" } : Jvm.MethodName)) ∈ lw_all := lw_g (lw_at lw_m7 8 rfl) rfl
theorem q1586 : (Jvm.Cond.privateMethod ({ cls := "GathersAllFaults", name := "partAsked", desc := "(II)I" } : Jvm.MethodName)) ∈ lw_tbl := lw_at lw_m7 9 rfl
theorem q1587 : (Jvm.Cond.instanceMethod ({ cls := "GathersAllFaults", name := "partAsked", desc := "(II)I" } : Jvm.MethodName)) ∈ lw_all := lw_g (lw_at lw_m7 10 rfl) rfl
theorem q1588 : (Jvm.Cond.code ({ cls := "GathersAllFaults", name := "partAsked", desc := "(II)I" } : Jvm.MethodName) prog_1_method_23_code (6 : Nat) (Option.some Jvm.ClassFile.FieldType.int)) ∈ lw_all := lw_g (lw_at lw_m7 11 rfl) rfl
theorem q1589 : (Jvm.Cond.methodLink "GathersAllFaults" (173 : Nat) ({ cls := "GathersAllFaults", name := "at", desc := "(I)LGathersAllFaults$Value;" } : Jvm.MethodName)) ∈ lw_all := lw_g (lw_at lw_m7 12 rfl) rfl
theorem q1590 : (Jvm.Cond.privateMethod ({ cls := "GathersAllFaults", name := "at", desc := "(I)LGathersAllFaults$Value;" } : Jvm.MethodName)) ∈ lw_tbl := lw_at lw_m7 13 rfl
theorem q1591 : (Jvm.Cond.instanceMethod ({ cls := "GathersAllFaults", name := "at", desc := "(I)LGathersAllFaults$Value;" } : Jvm.MethodName)) ∈ lw_all := lw_g (lw_at lw_m7 14 rfl) rfl
theorem q1592 : (Jvm.Cond.code ({ cls := "GathersAllFaults", name := "at", desc := "(I)LGathersAllFaults$Value;" } : Jvm.MethodName) prog_1_method_21_code (4 : Nat) (Option.some (Jvm.ClassFile.FieldType.object "GathersAllFaults$Value"))) ∈ lw_all := lw_g (lw_at lw_m7 15 rfl) rfl
theorem q1593 : (Jvm.Cond.methodLink "GathersAllFaults" (145 : Nat) ({ cls := "GathersAllFaults", name := "parts", desc := "()LGathersAllFaults$Row;" } : Jvm.MethodName)) ∈ lw_all := lw_g (lw_at lw_m7 16 rfl) rfl
theorem q1594 : (Jvm.Cond.privateMethod ({ cls := "GathersAllFaults", name := "parts", desc := "()LGathersAllFaults$Row;" } : Jvm.MethodName)) ∈ lw_tbl := lw_at lw_m7 17 rfl
theorem q1595 : (Jvm.Cond.instanceMethod ({ cls := "GathersAllFaults", name := "parts", desc := "()LGathersAllFaults$Row;" } : Jvm.MethodName)) ∈ lw_all := lw_g (lw_at lw_m7 18 rfl) rfl
theorem q1596 : (Jvm.Cond.code ({ cls := "GathersAllFaults", name := "parts", desc := "()LGathersAllFaults$Row;" } : Jvm.MethodName) prog_1_method_20_code (2 : Nat) (Option.some (Jvm.ClassFile.FieldType.object "GathersAllFaults$Row"))) ∈ lw_all := lw_g (lw_at lw_m7 19 rfl) rfl
theorem q1597 : (Jvm.Cond.classLink "GathersAllFaults" (138 : Nat) "GathersAllFaults$Row") ∈ lw_all := lw_g (lw_at lw_m7 20 rfl) rfl
theorem q1598 : (Jvm.Cond.methodLinkNest "GathersAllFaults" (140 : Nat) ({ cls := "GathersAllFaults$Row", name := "<init>", desc := "()V" } : Jvm.MethodName) "GathersAllFaults") ∈ lw_tbl := lw_at lw_m7 21 rfl
theorem q1599 : (Jvm.Cond.methodLink "GathersAllFaults" (141 : Nat) ({ cls := "GathersAllFaults$Value", name := "layAll", desc := "(LGathersAllFaults$Row;I)V" } : Jvm.MethodName)) ∈ lw_all := lw_g (lw_at lw_m7 22 rfl) rfl
theorem q1614 : (Jvm.Cond.fieldLinkNest "GathersAllFaults" (157 : Nat) "GathersAllFaults$Part" "path" "I" "GathersAllFaults") ∈ lw_tbl := lw_at lw_m7 37 rfl
theorem q1616 : (Jvm.Cond.fieldLinkNest "GathersAllFaults" (160 : Nat) "GathersAllFaults$Part" "value" "LGathersAllFaults$Value;" "GathersAllFaults") ∈ lw_tbl := lw_at lw_m7 39 rfl
theorem q1640 : (Jvm.Cond.methodLink "GathersAllFaults" (152 : Nat) ({ cls := "GathersAllFaults$Row", name := "at", desc := "(I)LGathersAllFaults$Placed;" } : Jvm.MethodName)) ∈ lw_all := lw_g (lw_at lw_m7 63 rfl) rfl
theorem q1641 : (Jvm.Cond.classLink "GathersAllFaults" (155 : Nat) "GathersAllFaults$Part") ∈ lw_all := lw_g (lw_at lw_m7 64 rfl) rfl
theorem q1642 : (Jvm.Cond.constantLong "GathersAllFaults" (175 : Nat) (3 : Int64)) ∈ lw_all := lw_g (lw_at lw_m7 65 rfl) rfl
theorem q1643 : (Jvm.Cond.methodLink "GathersAllFaults" (177 : Nat) ({ cls := "GathersAllFaults$Value", name := "kind", desc := "()I" } : Jvm.MethodName)) ∈ lw_all := lw_g (lw_at lw_m7 66 rfl) rfl
theorem q1658 : (Jvm.Cond.methodLink "GathersAllFaults" (180 : Nat) ({ cls := "GathersAllFaults$Value", name := "many", desc := "()I" } : Jvm.MethodName)) ∈ lw_all := lw_g (lw_at lw_m7 81 rfl) rfl
theorem q1669 : (Jvm.Cond.methodLink "GathersAllFaults" (372 : Nat) ({ cls := "GathersAllFaults", name := "putIt", desc := "(II)I" } : Jvm.MethodName)) ∈ lw_all := lw_g (lw_at lw_m7 92 rfl) rfl
theorem q1670 : (Jvm.Cond.privateMethod ({ cls := "GathersAllFaults", name := "putIt", desc := "(II)I" } : Jvm.MethodName)) ∈ lw_tbl := lw_at lw_m7 93 rfl
theorem q1671 : (Jvm.Cond.instanceMethod ({ cls := "GathersAllFaults", name := "putIt", desc := "(II)I" } : Jvm.MethodName)) ∈ lw_all := lw_g (lw_at lw_m7 94 rfl) rfl
theorem q1672 : (Jvm.Cond.code ({ cls := "GathersAllFaults", name := "putIt", desc := "(II)I" } : Jvm.MethodName) prog_1_method_25_code (3 : Nat) (Option.some Jvm.ClassFile.FieldType.int)) ∈ lw_all := lw_g (lw_at lw_m7 95 rfl) rfl
theorem q1673 : (Jvm.Cond.constantLong "GathersAllFaults" (182 : Nat) (99 : Int64)) ∈ lw_all := lw_g (lw_at lw_m7 96 rfl) rfl
theorem q1674 : (Jvm.Cond.methodLink "GathersAllFaults" (188 : Nat) ({ cls := "GathersAllFaults", name := "put", desc := "(ILGathersAllFaults$Value;)I" } : Jvm.MethodName)) ∈ lw_all := lw_g (lw_at lw_m7 97 rfl) rfl
theorem q1675 : (Jvm.Cond.privateMethod ({ cls := "GathersAllFaults", name := "put", desc := "(ILGathersAllFaults$Value;)I" } : Jvm.MethodName)) ∈ lw_tbl := lw_at lw_m7 98 rfl
theorem q1676 : (Jvm.Cond.instanceMethod ({ cls := "GathersAllFaults", name := "put", desc := "(ILGathersAllFaults$Value;)I" } : Jvm.MethodName)) ∈ lw_all := lw_g (lw_at lw_m7 99 rfl) rfl
theorem q1677 : (Jvm.Cond.code ({ cls := "GathersAllFaults", name := "put", desc := "(ILGathersAllFaults$Value;)I" } : Jvm.MethodName) prog_1_method_24_code (4 : Nat) (Option.some Jvm.ClassFile.FieldType.int)) ∈ lw_all := lw_g (lw_at lw_m7 100 rfl) rfl
theorem q1678 : (Jvm.Cond.methodLink "GathersAllFaults" (165 : Nat) ({ cls := "GathersAllFaults", name := "changed", desc := "(LGathersAllFaults$Value;ILGathersAllFaults$Value;)LGathersAllFaults$Value;" } : Jvm.MethodName)) ∈ lw_all := lw_g (lw_at lw_m7 101 rfl) rfl
theorem q1679 : (Jvm.Cond.static ({ cls := "GathersAllFaults", name := "changed", desc := "(LGathersAllFaults$Value;ILGathersAllFaults$Value;)LGathersAllFaults$Value;" } : Jvm.MethodName)) ∈ lw_all := lw_g (lw_at lw_m7 102 rfl) rfl
theorem q1680 : (Jvm.Cond.code ({ cls := "GathersAllFaults", name := "changed", desc := "(LGathersAllFaults$Value;ILGathersAllFaults$Value;)LGathersAllFaults$Value;" } : Jvm.MethodName) prog_1_method_22_code (6 : Nat) (Option.some (Jvm.ClassFile.FieldType.object "GathersAllFaults$Value"))) ∈ lw_all := lw_g (lw_at lw_m7 103 rfl) rfl
theorem q1681 : (Jvm.Cond.methodLink "GathersAllFaults" (162 : Nat) ({ cls := "GathersAllFaults$Value", name := "step", desc := "(I)LGathersAllFaults$Value;" } : Jvm.MethodName)) ∈ lw_all := lw_g (lw_at lw_m7 104 rfl) rfl
theorem q1695 : (Jvm.Cond.methodLink "GathersAllFaults" (169 : Nat) ({ cls := "GathersAllFaults$Value", name := "with", desc := "(ILGathersAllFaults$Value;)LGathersAllFaults$Value;" } : Jvm.MethodName)) ∈ lw_all := lw_g (lw_at lw_m7 118 rfl) rfl
theorem q1716 : (Jvm.Cond.methodLink "GathersAllFaults" (229 : Nat) ({ cls := "GathersAllFaults", name := "found", desc := "()LGathersAllFaults$Finding;" } : Jvm.MethodName)) ∈ lw_all := lw_g (lw_at lw_m7 139 rfl) rfl
theorem q1717 : (Jvm.Cond.privateMethod ({ cls := "GathersAllFaults", name := "found", desc := "()LGathersAllFaults$Finding;" } : Jvm.MethodName)) ∈ lw_tbl := lw_at lw_m7 140 rfl
theorem q1718 : (Jvm.Cond.instanceMethod ({ cls := "GathersAllFaults", name := "found", desc := "()LGathersAllFaults$Finding;" } : Jvm.MethodName)) ∈ lw_all := lw_g (lw_at lw_m7 141 rfl) rfl
theorem q1719 : (Jvm.Cond.code ({ cls := "GathersAllFaults", name := "found", desc := "()LGathersAllFaults$Finding;" } : Jvm.MethodName) prog_1_method_26_code (1 : Nat) (Option.some (Jvm.ClassFile.FieldType.object "GathersAllFaults$Finding"))) ∈ lw_all := lw_g (lw_at lw_m7 142 rfl) rfl
theorem q1720 : (Jvm.Cond.methodLink "GathersAllFaults" (192 : Nat) ({ cls := "GathersAllFaults$Compiled", name := "of", desc := "(LGathersAllFaults$Value;)LGathersAllFaults$Finding;" } : Jvm.MethodName)) ∈ lw_all := lw_g (lw_at lw_m7 143 rfl) rfl
theorem q1729 : (Jvm.Cond.methodLink "GathersAllFaults" (375 : Nat) ({ cls := "GathersAllFaults", name := "faultTold", desc := "(II)I" } : Jvm.MethodName)) ∈ lw_all := lw_g (lw_at lw_m7 152 rfl) rfl
theorem q1730 : (Jvm.Cond.privateMethod ({ cls := "GathersAllFaults", name := "faultTold", desc := "(II)I" } : Jvm.MethodName)) ∈ lw_tbl := lw_at lw_m7 153 rfl
theorem q1731 : (Jvm.Cond.instanceMethod ({ cls := "GathersAllFaults", name := "faultTold", desc := "(II)I" } : Jvm.MethodName)) ∈ lw_all := lw_g (lw_at lw_m7 154 rfl) rfl
theorem q1732 : (Jvm.Cond.code ({ cls := "GathersAllFaults", name := "faultTold", desc := "(II)I" } : Jvm.MethodName) prog_1_method_30_code (4 : Nat) (Option.some Jvm.ClassFile.FieldType.int)) ∈ lw_all := lw_g (lw_at lw_m7 155 rfl) rfl
theorem q1733 : (Jvm.Cond.methodLink "GathersAllFaults" (226 : Nat) ({ cls := "GathersAllFaults", name := "mustBeBit", desc := "(I)V" } : Jvm.MethodName)) ∈ lw_all := lw_g (lw_at lw_m7 156 rfl) rfl
theorem q1734 : (Jvm.Cond.static ({ cls := "GathersAllFaults", name := "mustBeBit", desc := "(I)V" } : Jvm.MethodName)) ∈ lw_all := lw_g (lw_at lw_m7 157 rfl) rfl
theorem q1735 : (Jvm.Cond.code ({ cls := "GathersAllFaults", name := "mustBeBit", desc := "(I)V" } : Jvm.MethodName) prog_1_method_50_code (1 : Nat) (Option.none : Option Jvm.ClassFile.FieldType)) ∈ lw_all := lw_g (lw_at lw_m7 158 rfl) rfl
theorem q1736 : (Jvm.Cond.classLink "GathersAllFaults" (232 : Nat) "GathersAllFaults$Found") ∈ lw_all := lw_g (lw_at lw_m7 159 rfl) rfl
theorem q1737 : (Jvm.Cond.methodLink "GathersAllFaults" (378 : Nat) ({ cls := "GathersAllFaults", name := "codedTold", desc := "(I)I" } : Jvm.MethodName)) ∈ lw_all := lw_g (lw_at lw_m7 160 rfl) rfl
theorem q1738 : (Jvm.Cond.privateMethod ({ cls := "GathersAllFaults", name := "codedTold", desc := "(I)I" } : Jvm.MethodName)) ∈ lw_tbl := lw_at lw_m7 161 rfl
theorem q1739 : (Jvm.Cond.instanceMethod ({ cls := "GathersAllFaults", name := "codedTold", desc := "(I)I" } : Jvm.MethodName)) ∈ lw_all := lw_g (lw_at lw_m7 162 rfl) rfl
theorem q1740 : (Jvm.Cond.code ({ cls := "GathersAllFaults", name := "codedTold", desc := "(I)I" } : Jvm.MethodName) prog_1_method_31_code (5 : Nat) (Option.some Jvm.ClassFile.FieldType.int)) ∈ lw_all := lw_g (lw_at lw_m7 163 rfl) rfl
theorem q1741 : (Jvm.Cond.constantLong "GathersAllFaults" (238 : Nat) (12 : Int64)) ∈ lw_all := lw_g (lw_at lw_m7 164 rfl) rfl
theorem q1742 : (Jvm.Cond.methodLink "GathersAllFaults" (381 : Nat) ({ cls := "GathersAllFaults", name := "belowTold", desc := "(I)I" } : Jvm.MethodName)) ∈ lw_all := lw_g (lw_at lw_m7 165 rfl) rfl
theorem q1743 : (Jvm.Cond.privateMethod ({ cls := "GathersAllFaults", name := "belowTold", desc := "(I)I" } : Jvm.MethodName)) ∈ lw_tbl := lw_at lw_m7 166 rfl
theorem q1744 : (Jvm.Cond.instanceMethod ({ cls := "GathersAllFaults", name := "belowTold", desc := "(I)I" } : Jvm.MethodName)) ∈ lw_all := lw_g (lw_at lw_m7 167 rfl) rfl
theorem q1745 : (Jvm.Cond.code ({ cls := "GathersAllFaults", name := "belowTold", desc := "(I)I" } : Jvm.MethodName) prog_1_method_32_code (2 : Nat) (Option.some Jvm.ClassFile.FieldType.int)) ∈ lw_all := lw_g (lw_at lw_m7 168 rfl) rfl
theorem q1746 : (Jvm.Cond.constantLong "GathersAllFaults" (240 : Nat) (99999 : Int64)) ∈ lw_all := lw_g (lw_at lw_m7 169 rfl) rfl
theorem q1747 : (Jvm.Cond.methodLink "GathersAllFaults" (242 : Nat) ({ cls := "GathersAllFaults$Finding", name := "below", desc := "(I)I" } : Jvm.MethodName)) ∈ lw_all := lw_g (lw_at lw_m7 170 rfl) rfl
theorem q1748 : (Jvm.Cond.methodLink "GathersAllFaults" (252 : Nat) ({ cls := "GathersAllFaults$Found", name := "told", desc := "()I" } : Jvm.MethodName)) ∈ lw_all := lw_g (lw_at lw_m7 171 rfl) rfl
theorem q1752 : (Jvm.Cond.methodLink "GathersAllFaults" (387 : Nat) ({ cls := "GathersAllFaults", name := "limitedTold", desc := "(II)I" } : Jvm.MethodName)) ∈ lw_all := lw_g (lw_at lw_m7 175 rfl) rfl
theorem q1753 : (Jvm.Cond.privateMethod ({ cls := "GathersAllFaults", name := "limitedTold", desc := "(II)I" } : Jvm.MethodName)) ∈ lw_tbl := lw_at lw_m7 176 rfl
theorem q1754 : (Jvm.Cond.instanceMethod ({ cls := "GathersAllFaults", name := "limitedTold", desc := "(II)I" } : Jvm.MethodName)) ∈ lw_all := lw_g (lw_at lw_m7 177 rfl) rfl
theorem q1755 : (Jvm.Cond.code ({ cls := "GathersAllFaults", name := "limitedTold", desc := "(II)I" } : Jvm.MethodName) prog_1_method_33_code (5 : Nat) (Option.some Jvm.ClassFile.FieldType.int)) ∈ lw_all := lw_g (lw_at lw_m7 178 rfl) rfl
theorem q1756 : (Jvm.Cond.methodLink "GathersAllFaults" (246 : Nat) ({ cls := "java/lang/Math", name := "min", desc := "(II)I" } : Jvm.MethodName)) ∈ lw_all := lw_g (lw_at lw_m7 179 rfl) rfl
theorem q1757 : (Jvm.Cond.methodLink "GathersAllFaults" (390 : Nat) ({ cls := "GathersAllFaults", name := "totalTold", desc := "()I" } : Jvm.MethodName)) ∈ lw_all := lw_g (lw_at lw_m7 180 rfl) rfl
theorem q1758 : (Jvm.Cond.privateMethod ({ cls := "GathersAllFaults", name := "totalTold", desc := "()I" } : Jvm.MethodName)) ∈ lw_tbl := lw_at lw_m7 181 rfl
theorem q1759 : (Jvm.Cond.instanceMethod ({ cls := "GathersAllFaults", name := "totalTold", desc := "()I" } : Jvm.MethodName)) ∈ lw_all := lw_g (lw_at lw_m7 182 rfl) rfl
theorem q1760 : (Jvm.Cond.code ({ cls := "GathersAllFaults", name := "totalTold", desc := "()I" } : Jvm.MethodName) prog_1_method_52_code (1 : Nat) (Option.some Jvm.ClassFile.FieldType.int)) ∈ lw_all := lw_g (lw_at lw_m7 183 rfl) rfl
theorem q1761 : (Jvm.Cond.methodLink "GathersAllFaults" (354 : Nat) ({ cls := "GathersAllFaults$Value", name := "total", desc := "()I" } : Jvm.MethodName)) ∈ lw_all := lw_g (lw_at lw_m7 184 rfl) rfl
theorem q1778 : (Jvm.Cond.methodLink "GathersAllFaults" (393 : Nat) ({ cls := "GathersAllFaults", name := "sameTold", desc := "(II)I" } : Jvm.MethodName)) ∈ lw_all := lw_g (lw_at lw_m7 201 rfl) rfl
theorem q1779 : (Jvm.Cond.privateMethod ({ cls := "GathersAllFaults", name := "sameTold", desc := "(II)I" } : Jvm.MethodName)) ∈ lw_tbl := lw_at lw_m7 202 rfl
theorem q1780 : (Jvm.Cond.instanceMethod ({ cls := "GathersAllFaults", name := "sameTold", desc := "(II)I" } : Jvm.MethodName)) ∈ lw_all := lw_g (lw_at lw_m7 203 rfl) rfl
theorem q1781 : (Jvm.Cond.code ({ cls := "GathersAllFaults", name := "sameTold", desc := "(II)I" } : Jvm.MethodName) prog_1_method_53_code (4 : Nat) (Option.some Jvm.ClassFile.FieldType.int)) ∈ lw_all := lw_g (lw_at lw_m7 204 rfl) rfl
theorem q1782 : (Jvm.Cond.methodLink "GathersAllFaults" (357 : Nat) ({ cls := "GathersAllFaults$Value", name := "equals", desc := "(Ljava/lang/Object;)Z" } : Jvm.MethodName)) ∈ lw_all := lw_g (lw_at lw_m7 205 rfl) rfl
theorem q1783 : (Jvm.Cond.methodLink "GathersAllFaults" (338 : Nat) ({ cls := "GathersAllFaults", name := "ofRest", desc := "(IIII)I" } : Jvm.MethodName)) ∈ lw_all := lw_g (lw_at lw_m7 206 rfl) rfl
theorem q1784 : (Jvm.Cond.privateMethod ({ cls := "GathersAllFaults", name := "ofRest", desc := "(IIII)I" } : Jvm.MethodName)) ∈ lw_tbl := lw_at lw_m7 207 rfl
theorem q1785 : (Jvm.Cond.instanceMethod ({ cls := "GathersAllFaults", name := "ofRest", desc := "(IIII)I" } : Jvm.MethodName)) ∈ lw_all := lw_g (lw_at lw_m7 208 rfl) rfl
theorem q1786 : (Jvm.Cond.code ({ cls := "GathersAllFaults", name := "ofRest", desc := "(IIII)I" } : Jvm.MethodName) prog_1_method_59_code (5 : Nat) (Option.some Jvm.ClassFile.FieldType.int)) ∈ lw_all := lw_g (lw_at lw_m7 209 rfl) rfl
theorem q1787 : (Jvm.Cond.methodLink "GathersAllFaults" (406 : Nat) ({ cls := "GathersAllFaults", name := "differentOnes", desc := "()I" } : Jvm.MethodName)) ∈ lw_all := lw_g (lw_at lw_m7 210 rfl) rfl
theorem q1788 : (Jvm.Cond.privateMethod ({ cls := "GathersAllFaults", name := "differentOnes", desc := "()I" } : Jvm.MethodName)) ∈ lw_tbl := lw_at lw_m7 211 rfl
theorem q1789 : (Jvm.Cond.instanceMethod ({ cls := "GathersAllFaults", name := "differentOnes", desc := "()I" } : Jvm.MethodName)) ∈ lw_all := lw_g (lw_at lw_m7 212 rfl) rfl
theorem q1790 : (Jvm.Cond.code ({ cls := "GathersAllFaults", name := "differentOnes", desc := "()I" } : Jvm.MethodName) prog_1_method_34_code (4 : Nat) (Option.some Jvm.ClassFile.FieldType.int)) ∈ lw_all := lw_g (lw_at lw_m7 213 rfl) rfl
theorem q1791 : (Jvm.Cond.classLink "GathersAllFaults" (255 : Nat) "java/util/HashSet") ∈ lw_all := lw_g (lw_at lw_m7 214 rfl) rfl
theorem q1793 : (Jvm.Cond.methodLink "GathersAllFaults" (257 : Nat) ({ cls := "java/util/HashSet", name := "<init>", desc := "()V" } : Jvm.MethodName)) ∈ lw_all := lw_g (lw_at lw_m7 216 rfl) rfl
theorem q1813 : (Jvm.Cond.methodLink "GathersAllFaults" (258 : Nat) ({ cls := "java/util/HashSet", name := "add", desc := "(Ljava/lang/Object;)Z" } : Jvm.MethodName)) ∈ lw_all := lw_g (lw_at lw_m7 236 rfl) rfl
theorem q1820 : (Jvm.Cond.methodLink "GathersAllFaults" (262 : Nat) ({ cls := "java/util/HashSet", name := "size", desc := "()I" } : Jvm.MethodName)) ∈ lw_all := lw_g (lw_at lw_m8 3 rfl) rfl
theorem q1825 : (Jvm.Cond.methodLink "GathersAllFaults" (409 : Nat) ({ cls := "GathersAllFaults", name := "oftenTold", desc := "(I)I" } : Jvm.MethodName)) ∈ lw_all := lw_g (lw_at lw_m8 8 rfl) rfl
theorem q1826 : (Jvm.Cond.privateMethod ({ cls := "GathersAllFaults", name := "oftenTold", desc := "(I)I" } : Jvm.MethodName)) ∈ lw_tbl := lw_at lw_m8 9 rfl
theorem q1827 : (Jvm.Cond.instanceMethod ({ cls := "GathersAllFaults", name := "oftenTold", desc := "(I)I" } : Jvm.MethodName)) ∈ lw_all := lw_g (lw_at lw_m8 10 rfl) rfl
theorem q1828 : (Jvm.Cond.code ({ cls := "GathersAllFaults", name := "oftenTold", desc := "(I)I" } : Jvm.MethodName) prog_1_method_35_code (7 : Nat) (Option.some Jvm.ClassFile.FieldType.int)) ∈ lw_all := lw_g (lw_at lw_m8 11 rfl) rfl
theorem q1829 : (Jvm.Cond.classLink "GathersAllFaults" (263 : Nat) "java/util/HashMap") ∈ lw_all := lw_g (lw_at lw_m8 12 rfl) rfl
theorem q1830 : (Jvm.Cond.methodLink "GathersAllFaults" (265 : Nat) ({ cls := "java/util/HashMap", name := "<init>", desc := "()V" } : Jvm.MethodName)) ∈ lw_all := lw_g (lw_at lw_m8 13 rfl) rfl
theorem q1831 : (Jvm.Cond.classLink "GathersAllFaults" (266 : Nat) "GathersAllFaults$Tally") ∈ lw_all := lw_g (lw_at lw_m8 14 rfl) rfl
theorem q1833 : (Jvm.Cond.methodLink "GathersAllFaults" (268 : Nat) ({ cls := "GathersAllFaults$Tally", name := "<init>", desc := "(I)V" } : Jvm.MethodName)) ∈ lw_all := lw_g (lw_at lw_m8 16 rfl) rfl
theorem q1837 : (Jvm.Cond.fieldLinkNest "GathersAllFaults" (277 : Nat) "GathersAllFaults$Tally" "many" "I" "GathersAllFaults") ∈ lw_tbl := lw_at lw_m8 20 rfl
theorem q1839 : (Jvm.Cond.fieldLinkNest "GathersAllFaults" (278 : Nat) "GathersAllFaults$Tally" "path" "I" "GathersAllFaults") ∈ lw_tbl := lw_at lw_m8 22 rfl
theorem q1845 : (Jvm.Cond.methodLink "GathersAllFaults" (269 : Nat) ({ cls := "java/util/HashMap", name := "containsKey", desc := "(Ljava/lang/Object;)Z" } : Jvm.MethodName)) ∈ lw_all := lw_g (lw_at lw_m8 28 rfl) rfl
theorem q1846 : (Jvm.Cond.methodLink "GathersAllFaults" (272 : Nat) ({ cls := "java/util/HashMap", name := "put", desc := "(Ljava/lang/Object;Ljava/lang/Object;)Ljava/lang/Object;" } : Jvm.MethodName)) ∈ lw_all := lw_g (lw_at lw_m8 29 rfl) rfl
theorem q1847 : (Jvm.Cond.methodLink "GathersAllFaults" (273 : Nat) ({ cls := "java/util/HashMap", name := "get", desc := "(Ljava/lang/Object;)Ljava/lang/Object;" } : Jvm.MethodName)) ∈ lw_all := lw_g (lw_at lw_m8 30 rfl) rfl
theorem q1853 : (Jvm.Cond.methodLink "GathersAllFaults" (412 : Nat) ({ cls := "GathersAllFaults", name := "withoutTold", desc := "(I)I" } : Jvm.MethodName)) ∈ lw_all := lw_g (lw_at lw_m8 36 rfl) rfl
theorem q1854 : (Jvm.Cond.privateMethod ({ cls := "GathersAllFaults", name := "withoutTold", desc := "(I)I" } : Jvm.MethodName)) ∈ lw_tbl := lw_at lw_m8 37 rfl
theorem q1855 : (Jvm.Cond.instanceMethod ({ cls := "GathersAllFaults", name := "withoutTold", desc := "(I)I" } : Jvm.MethodName)) ∈ lw_all := lw_g (lw_at lw_m8 38 rfl) rfl
theorem q1856 : (Jvm.Cond.code ({ cls := "GathersAllFaults", name := "withoutTold", desc := "(I)I" } : Jvm.MethodName) prog_1_method_36_code (2 : Nat) (Option.some Jvm.ClassFile.FieldType.int)) ∈ lw_all := lw_g (lw_at lw_m8 39 rfl) rfl
theorem q1857 : (Jvm.Cond.methodLink "GathersAllFaults" (279 : Nat) ({ cls := "GathersAllFaults", name := "foundWith", desc := "(ILGathersAllFaults$Value;)I" } : Jvm.MethodName)) ∈ lw_all := lw_g (lw_at lw_m8 40 rfl) rfl
theorem q1858 : (Jvm.Cond.privateMethod ({ cls := "GathersAllFaults", name := "foundWith", desc := "(ILGathersAllFaults$Value;)I" } : Jvm.MethodName)) ∈ lw_tbl := lw_at lw_m8 41 rfl
theorem q1859 : (Jvm.Cond.instanceMethod ({ cls := "GathersAllFaults", name := "foundWith", desc := "(ILGathersAllFaults$Value;)I" } : Jvm.MethodName)) ∈ lw_all := lw_g (lw_at lw_m8 42 rfl) rfl
theorem q1860 : (Jvm.Cond.code ({ cls := "GathersAllFaults", name := "foundWith", desc := "(ILGathersAllFaults$Value;)I" } : Jvm.MethodName) prog_1_method_29_code (3 : Nat) (Option.some Jvm.ClassFile.FieldType.int)) ∈ lw_all := lw_g (lw_at lw_m8 43 rfl) rfl
theorem q1861 : (Jvm.Cond.methodLink "GathersAllFaults" (415 : Nat) ({ cls := "GathersAllFaults", name := "mendTold", desc := "(I)I" } : Jvm.MethodName)) ∈ lw_all := lw_g (lw_at lw_m8 44 rfl) rfl
theorem q1862 : (Jvm.Cond.privateMethod ({ cls := "GathersAllFaults", name := "mendTold", desc := "(I)I" } : Jvm.MethodName)) ∈ lw_tbl := lw_at lw_m8 45 rfl
theorem q1863 : (Jvm.Cond.instanceMethod ({ cls := "GathersAllFaults", name := "mendTold", desc := "(I)I" } : Jvm.MethodName)) ∈ lw_all := lw_g (lw_at lw_m8 46 rfl) rfl
theorem q1864 : (Jvm.Cond.code ({ cls := "GathersAllFaults", name := "mendTold", desc := "(I)I" } : Jvm.MethodName) prog_1_method_37_code (8 : Nat) (Option.some Jvm.ClassFile.FieldType.int)) ∈ lw_all := lw_g (lw_at lw_m8 47 rfl) rfl
theorem q1865 : (Jvm.Cond.methodLink "GathersAllFaults" (282 : Nat) ({ cls := "GathersAllFaults", name := "findingWith", desc := "(II)LGathersAllFaults$Finding;" } : Jvm.MethodName)) ∈ lw_all := lw_g (lw_at lw_m8 48 rfl) rfl
theorem q1866 : (Jvm.Cond.privateMethod ({ cls := "GathersAllFaults", name := "findingWith", desc := "(II)LGathersAllFaults$Finding;" } : Jvm.MethodName)) ∈ lw_tbl := lw_at lw_m8 49 rfl
theorem q1867 : (Jvm.Cond.instanceMethod ({ cls := "GathersAllFaults", name := "findingWith", desc := "(II)LGathersAllFaults$Finding;" } : Jvm.MethodName)) ∈ lw_all := lw_g (lw_at lw_m8 50 rfl) rfl
theorem q1868 : (Jvm.Cond.codeWith ({ cls := "GathersAllFaults", name := "findingWith", desc := "(II)LGathersAllFaults$Finding;" } : Jvm.MethodName) prog_1_method_28_code (6 : Nat) (Option.some (Jvm.ClassFile.FieldType.object "GathersAllFaults$Finding")) [((18 : Nat), (31 : Nat), (41 : Nat), (0 : Nat)), ((41 : Nat), (43 : Nat), (41 : Nat), (0 : Nat))]) ∈ lw_all := lw_g (lw_at lw_m8 51 rfl) rfl
theorem q1869 : (Jvm.Cond.methodLink "GathersAllFaults" (218 : Nat) ({ cls := "GathersAllFaults", name := "swap", desc := "(ILGathersAllFaults$Value;)LGathersAllFaults$Value;" } : Jvm.MethodName)) ∈ lw_all := lw_g (lw_at lw_m8 52 rfl) rfl
theorem q1870 : (Jvm.Cond.privateMethod ({ cls := "GathersAllFaults", name := "swap", desc := "(ILGathersAllFaults$Value;)LGathersAllFaults$Value;" } : Jvm.MethodName)) ∈ lw_tbl := lw_at lw_m8 53 rfl
theorem q1871 : (Jvm.Cond.instanceMethod ({ cls := "GathersAllFaults", name := "swap", desc := "(ILGathersAllFaults$Value;)LGathersAllFaults$Value;" } : Jvm.MethodName)) ∈ lw_all := lw_g (lw_at lw_m8 54 rfl) rfl
theorem q1872 : (Jvm.Cond.code ({ cls := "GathersAllFaults", name := "swap", desc := "(ILGathersAllFaults$Value;)LGathersAllFaults$Value;" } : Jvm.MethodName) prog_1_method_27_code (9 : Nat) (Option.some (Jvm.ClassFile.FieldType.object "GathersAllFaults$Value"))) ∈ lw_all := lw_g (lw_at lw_m8 55 rfl) rfl
theorem q1873 : (Jvm.Cond.classLink "GathersAllFaults" (196 : Nat) "GathersAllFaults$Rec") ∈ lw_all := lw_g (lw_at lw_m8 56 rfl) rfl
theorem q1874 : (Jvm.Cond.methodLink "GathersAllFaults" (202 : Nat) ({ cls := "java/lang/Integer", name := "valueOf", desc := "(I)Ljava/lang/Integer;" } : Jvm.MethodName)) ∈ lw_all := lw_g (lw_at lw_m8 57 rfl) rfl
theorem q1875 : (Jvm.Cond.methodLink "GathersAllFaults" (208 : Nat) ({ cls := "java/util/LinkedHashMap", name := "put", desc := "(Ljava/lang/Object;Ljava/lang/Object;)Ljava/lang/Object;" } : Jvm.MethodName)) ∈ lw_all := lw_g (lw_at lw_m8 58 rfl) rfl
theorem q1876 : (Jvm.Cond.methodLink "GathersAllFaults" (418 : Nat) ({ cls := "GathersAllFaults", name := "rangeTold", desc := "(II)I" } : Jvm.MethodName)) ∈ lw_all := lw_g (lw_at lw_m8 59 rfl) rfl
theorem q1877 : (Jvm.Cond.privateMethod ({ cls := "GathersAllFaults", name := "rangeTold", desc := "(II)I" } : Jvm.MethodName)) ∈ lw_tbl := lw_at lw_m8 60 rfl
theorem q1878 : (Jvm.Cond.instanceMethod ({ cls := "GathersAllFaults", name := "rangeTold", desc := "(II)I" } : Jvm.MethodName)) ∈ lw_all := lw_g (lw_at lw_m8 61 rfl) rfl
theorem q1879 : (Jvm.Cond.code ({ cls := "GathersAllFaults", name := "rangeTold", desc := "(II)I" } : Jvm.MethodName) prog_1_method_38_code (5 : Nat) (Option.some Jvm.ClassFile.FieldType.int)) ∈ lw_all := lw_g (lw_at lw_m8 62 rfl) rfl
theorem q1880 : (Jvm.Cond.methodLink "GathersAllFaults" (421 : Nat) ({ cls := "GathersAllFaults", name := "whichTold", desc := "(I)I" } : Jvm.MethodName)) ∈ lw_all := lw_g (lw_at lw_m8 63 rfl) rfl
theorem q1881 : (Jvm.Cond.privateMethod ({ cls := "GathersAllFaults", name := "whichTold", desc := "(I)I" } : Jvm.MethodName)) ∈ lw_tbl := lw_at lw_m8 64 rfl
theorem q1882 : (Jvm.Cond.instanceMethod ({ cls := "GathersAllFaults", name := "whichTold", desc := "(I)I" } : Jvm.MethodName)) ∈ lw_all := lw_g (lw_at lw_m8 65 rfl) rfl
theorem q1883 : (Jvm.Cond.code ({ cls := "GathersAllFaults", name := "whichTold", desc := "(I)I" } : Jvm.MethodName) prog_1_method_41_code (4 : Nat) (Option.some Jvm.ClassFile.FieldType.int)) ∈ lw_all := lw_g (lw_at lw_m8 66 rfl) rfl
theorem q1884 : (Jvm.Cond.methodLink "GathersAllFaults" (304 : Nat) ({ cls := "GathersAllFaults", name := "isRowOf", desc := "(LGathersAllFaults$Finding;)Z" } : Jvm.MethodName)) ∈ lw_all := lw_g (lw_at lw_m8 67 rfl) rfl
theorem q1885 : (Jvm.Cond.privateMethod ({ cls := "GathersAllFaults", name := "isRowOf", desc := "(LGathersAllFaults$Finding;)Z" } : Jvm.MethodName)) ∈ lw_tbl := lw_at lw_m8 68 rfl
theorem q1886 : (Jvm.Cond.instanceMethod ({ cls := "GathersAllFaults", name := "isRowOf", desc := "(LGathersAllFaults$Finding;)Z" } : Jvm.MethodName)) ∈ lw_all := lw_g (lw_at lw_m8 69 rfl) rfl
theorem q1887 : (Jvm.Cond.code ({ cls := "GathersAllFaults", name := "isRowOf", desc := "(LGathersAllFaults$Finding;)Z" } : Jvm.MethodName) prog_1_method_40_code (3 : Nat) (Option.some Jvm.ClassFile.FieldType.boolean)) ∈ lw_all := lw_g (lw_at lw_m8 70 rfl) rfl
theorem q1888 : (Jvm.Cond.methodLink "GathersAllFaults" (424 : Nat) ({ cls := "GathersAllFaults", name := "rowIt", desc := "(I)I" } : Jvm.MethodName)) ∈ lw_all := lw_g (lw_at lw_m8 71 rfl) rfl
theorem q1889 : (Jvm.Cond.privateMethod ({ cls := "GathersAllFaults", name := "rowIt", desc := "(I)I" } : Jvm.MethodName)) ∈ lw_tbl := lw_at lw_m8 72 rfl
theorem q1890 : (Jvm.Cond.instanceMethod ({ cls := "GathersAllFaults", name := "rowIt", desc := "(I)I" } : Jvm.MethodName)) ∈ lw_all := lw_g (lw_at lw_m8 73 rfl) rfl
theorem q1891 : (Jvm.Cond.code ({ cls := "GathersAllFaults", name := "rowIt", desc := "(I)I" } : Jvm.MethodName) prog_1_method_55_code (2 : Nat) (Option.some Jvm.ClassFile.FieldType.int)) ∈ lw_all := lw_g (lw_at lw_m8 74 rfl) rfl
theorem q1892 : (Jvm.Cond.methodLink "GathersAllFaults" (427 : Nat) ({ cls := "GathersAllFaults", name := "judgeRow", desc := "()I" } : Jvm.MethodName)) ∈ lw_all := lw_g (lw_at lw_m8 75 rfl) rfl
theorem q1893 : (Jvm.Cond.privateMethod ({ cls := "GathersAllFaults", name := "judgeRow", desc := "()I" } : Jvm.MethodName)) ∈ lw_tbl := lw_at lw_m8 76 rfl
theorem q1894 : (Jvm.Cond.instanceMethod ({ cls := "GathersAllFaults", name := "judgeRow", desc := "()I" } : Jvm.MethodName)) ∈ lw_all := lw_g (lw_at lw_m8 77 rfl) rfl
theorem q1895 : (Jvm.Cond.codeWith ({ cls := "GathersAllFaults", name := "judgeRow", desc := "()I" } : Jvm.MethodName) prog_1_method_42_code (5 : Nat) (Option.some Jvm.ClassFile.FieldType.int) [((0 : Nat), (48 : Nat), (89 : Nat), (0 : Nat)), ((55 : Nat), (82 : Nat), (89 : Nat), (0 : Nat)), ((89 : Nat), (91 : Nat), (89 : Nat), (0 : Nat))]) ∈ lw_all := lw_g (lw_at lw_m8 78 rfl) rfl
theorem q1896 : (Jvm.Cond.methodLink "GathersAllFaults" (430 : Nat) ({ cls := "GathersAllFaults", name := "clearIt", desc := "()I" } : Jvm.MethodName)) ∈ lw_all := lw_g (lw_at lw_m8 79 rfl) rfl
theorem q1897 : (Jvm.Cond.privateMethod ({ cls := "GathersAllFaults", name := "clearIt", desc := "()I" } : Jvm.MethodName)) ∈ lw_tbl := lw_at lw_m8 80 rfl
theorem q1898 : (Jvm.Cond.instanceMethod ({ cls := "GathersAllFaults", name := "clearIt", desc := "()I" } : Jvm.MethodName)) ∈ lw_all := lw_g (lw_at lw_m8 81 rfl) rfl
theorem q1899 : (Jvm.Cond.code ({ cls := "GathersAllFaults", name := "clearIt", desc := "()I" } : Jvm.MethodName) prog_1_method_56_code (2 : Nat) (Option.some Jvm.ClassFile.FieldType.int)) ∈ lw_all := lw_g (lw_at lw_m8 82 rfl) rfl
theorem q1900 : (Jvm.Cond.methodLink "GathersAllFaults" (433 : Nat) ({ cls := "GathersAllFaults", name := "lotsTold", desc := "(III)I" } : Jvm.MethodName)) ∈ lw_all := lw_g (lw_at lw_m8 83 rfl) rfl
theorem q1901 : (Jvm.Cond.privateMethod ({ cls := "GathersAllFaults", name := "lotsTold", desc := "(III)I" } : Jvm.MethodName)) ∈ lw_tbl := lw_at lw_m8 84 rfl
theorem q1902 : (Jvm.Cond.instanceMethod ({ cls := "GathersAllFaults", name := "lotsTold", desc := "(III)I" } : Jvm.MethodName)) ∈ lw_all := lw_g (lw_at lw_m8 85 rfl) rfl
theorem q1903 : (Jvm.Cond.code ({ cls := "GathersAllFaults", name := "lotsTold", desc := "(III)I" } : Jvm.MethodName) prog_1_method_46_code (9 : Nat) (Option.some Jvm.ClassFile.FieldType.int)) ∈ lw_all := lw_g (lw_at lw_m8 86 rfl) rfl
theorem q1904 : (Jvm.Cond.constantLong "GathersAllFaults" (329 : Nat) (20 : Int64)) ∈ lw_all := lw_g (lw_at lw_m8 87 rfl) rfl
theorem q1905 : (Jvm.Cond.methodLink "GathersAllFaults" (331 : Nat) ({ cls := "GathersAllFaults", name := "hurt", desc := "(I)V" } : Jvm.MethodName)) ∈ lw_all := lw_g (lw_at lw_m8 88 rfl) rfl
theorem q1906 : (Jvm.Cond.privateMethod ({ cls := "GathersAllFaults", name := "hurt", desc := "(I)V" } : Jvm.MethodName)) ∈ lw_tbl := lw_at lw_m8 89 rfl
theorem q1907 : (Jvm.Cond.instanceMethod ({ cls := "GathersAllFaults", name := "hurt", desc := "(I)V" } : Jvm.MethodName)) ∈ lw_all := lw_g (lw_at lw_m8 90 rfl) rfl
theorem q1908 : (Jvm.Cond.code ({ cls := "GathersAllFaults", name := "hurt", desc := "(I)V" } : Jvm.MethodName) prog_1_method_45_code (3 : Nat) (Option.none : Option Jvm.ClassFile.FieldType)) ∈ lw_all := lw_g (lw_at lw_m8 91 rfl) rfl
theorem q1909 : (Jvm.Cond.methodLink "GathersAllFaults" (326 : Nat) ({ cls := "GathersAllFaults", name := "drawn", desc := "(I)I" } : Jvm.MethodName)) ∈ lw_all := lw_g (lw_at lw_m8 92 rfl) rfl
theorem q1910 : (Jvm.Cond.privateMethod ({ cls := "GathersAllFaults", name := "drawn", desc := "(I)I" } : Jvm.MethodName)) ∈ lw_tbl := lw_at lw_m8 93 rfl
theorem q1911 : (Jvm.Cond.instanceMethod ({ cls := "GathersAllFaults", name := "drawn", desc := "(I)I" } : Jvm.MethodName)) ∈ lw_all := lw_g (lw_at lw_m8 94 rfl) rfl
theorem q1912 : (Jvm.Cond.code ({ cls := "GathersAllFaults", name := "drawn", desc := "(I)I" } : Jvm.MethodName) prog_1_method_43_code (2 : Nat) (Option.some Jvm.ClassFile.FieldType.int)) ∈ lw_all := lw_g (lw_at lw_m8 95 rfl) rfl
theorem q1913 : (Jvm.Cond.constant "GathersAllFaults" (311 : Nat) (1664525 : Int32)) ∈ lw_all := lw_g (lw_at lw_m8 96 rfl) rfl
theorem q1914 : (Jvm.Cond.constant "GathersAllFaults" (312 : Nat) (1013904223 : Int32)) ∈ lw_all := lw_g (lw_at lw_m8 97 rfl) rfl
theorem q1915 : (Jvm.Cond.constant "GathersAllFaults" (313 : Nat) (2147483647 : Int32)) ∈ lw_all := lw_g (lw_at lw_m8 98 rfl) rfl
theorem q1916 : (Jvm.Cond.methodLink "GathersAllFaults" (321 : Nat) ({ cls := "GathersAllFaults", name := "pathIn", desc := "(LGathersAllFaults$Value;I)I" } : Jvm.MethodName)) ∈ lw_all := lw_g (lw_at lw_m8 99 rfl) rfl
theorem q1917 : (Jvm.Cond.privateMethod ({ cls := "GathersAllFaults", name := "pathIn", desc := "(LGathersAllFaults$Value;I)I" } : Jvm.MethodName)) ∈ lw_tbl := lw_at lw_m8 100 rfl
theorem q1918 : (Jvm.Cond.instanceMethod ({ cls := "GathersAllFaults", name := "pathIn", desc := "(LGathersAllFaults$Value;I)I" } : Jvm.MethodName)) ∈ lw_all := lw_g (lw_at lw_m8 101 rfl) rfl
theorem q1919 : (Jvm.Cond.code ({ cls := "GathersAllFaults", name := "pathIn", desc := "(LGathersAllFaults$Value;I)I" } : Jvm.MethodName) prog_1_method_44_code (10 : Nat) (Option.some Jvm.ClassFile.FieldType.int)) ∈ lw_all := lw_g (lw_at lw_m8 102 rfl) rfl
theorem q1920 : (Jvm.Cond.methodLink "GathersAllFaults" (320 : Nat) ({ cls := "GathersAllFaults$Rec", name := "step", desc := "(I)LGathersAllFaults$Value;" } : Jvm.MethodName)) ∈ lw_all := lw_g (lw_at lw_m8 103 rfl) rfl
theorem q1921 : (Jvm.Cond.methodLink "GathersAllFaults" (436 : Nat) ({ cls := "GathersAllFaults", name := "imageIt", desc := "()I" } : Jvm.MethodName)) ∈ lw_all := lw_g (lw_at lw_m8 104 rfl) rfl
theorem q1922 : (Jvm.Cond.privateMethod ({ cls := "GathersAllFaults", name := "imageIt", desc := "()I" } : Jvm.MethodName)) ∈ lw_tbl := lw_at lw_m8 105 rfl
theorem q1923 : (Jvm.Cond.instanceMethod ({ cls := "GathersAllFaults", name := "imageIt", desc := "()I" } : Jvm.MethodName)) ∈ lw_all := lw_g (lw_at lw_m8 106 rfl) rfl
theorem q1924 : (Jvm.Cond.code ({ cls := "GathersAllFaults", name := "imageIt", desc := "()I" } : Jvm.MethodName) prog_1_method_57_code (1 : Nat) (Option.some Jvm.ClassFile.FieldType.int)) ∈ lw_all := lw_g (lw_at lw_m8 107 rfl) rfl
theorem q1925 : (Jvm.Cond.methodLink "GathersAllFaults" (439 : Nat) ({ cls := "GathersAllFaults", name := "onIt", desc := "()I" } : Jvm.MethodName)) ∈ lw_all := lw_g (lw_at lw_m8 108 rfl) rfl
theorem q1926 : (Jvm.Cond.privateMethod ({ cls := "GathersAllFaults", name := "onIt", desc := "()I" } : Jvm.MethodName)) ∈ lw_tbl := lw_at lw_m8 109 rfl
theorem q1927 : (Jvm.Cond.instanceMethod ({ cls := "GathersAllFaults", name := "onIt", desc := "()I" } : Jvm.MethodName)) ∈ lw_all := lw_g (lw_at lw_m8 110 rfl) rfl
theorem q1928 : (Jvm.Cond.code ({ cls := "GathersAllFaults", name := "onIt", desc := "()I" } : Jvm.MethodName) prog_1_method_58_code (1 : Nat) (Option.some Jvm.ClassFile.FieldType.int)) ∈ lw_all := lw_g (lw_at lw_m8 111 rfl) rfl
theorem q1929 : (Jvm.Cond.methodLink "GathersAllFaults" (344 : Nat) ({ cls := "GathersAllFaults$Refusal", name := "number", desc := "()I" } : Jvm.MethodName)) ∈ lw_all := lw_g (lw_at lw_m8 112 rfl) rfl
theorem q1938 : (Jvm.Cond.methodLink "GathersAllFaults" (347 : Nat) ({ cls := "GathersAllFaults", name := "refuse", desc := "(I)I" } : Jvm.MethodName)) ∈ lw_all := lw_g (lw_at lw_m8 121 rfl) rfl
theorem q1939 : (Jvm.Cond.privateMethod ({ cls := "GathersAllFaults", name := "refuse", desc := "(I)I" } : Jvm.MethodName)) ∈ lw_tbl := lw_at lw_m8 122 rfl
theorem q1940 : (Jvm.Cond.instanceMethod ({ cls := "GathersAllFaults", name := "refuse", desc := "(I)I" } : Jvm.MethodName)) ∈ lw_all := lw_g (lw_at lw_m8 123 rfl) rfl
theorem q1941 : (Jvm.Cond.code ({ cls := "GathersAllFaults", name := "refuse", desc := "(I)I" } : Jvm.MethodName) prog_1_method_47_code (2 : Nat) (Option.some Jvm.ClassFile.FieldType.int)) ∈ lw_all := lw_g (lw_at lw_m8 124 rfl) rfl
theorem q1943 : (Jvm.Cond.instanceMethod ({ cls := "GathersAllFaults", name := "value", desc := "()I" } : Jvm.MethodName)) ∈ lw_all := lw_g (lw_at lw_m8 126 rfl) rfl
theorem q1944 : (Jvm.Cond.selects "GathersAllFaults" ({ cls := "GathersAllFaults", name := "value", desc := "()I" } : Jvm.MethodName) ({ cls := "GathersAllFaults", name := "value", desc := "()I" } : Jvm.MethodName)) ∈ lw_all := lw_g (lw_at lw_m8 127 rfl) rfl
theorem q1945 : (Jvm.Cond.code ({ cls := "GathersAllFaults", name := "value", desc := "()I" } : Jvm.MethodName) prog_1_method_65_code (1 : Nat) (Option.some Jvm.ClassFile.FieldType.int)) ∈ lw_all := lw_g (lw_at lw_m8 128 rfl) rfl
theorem q1947 : (Jvm.Cond.instanceMethod ({ cls := "GathersAllFaults", name := "check", desc := "()I" } : Jvm.MethodName)) ∈ lw_all := lw_g (lw_at lw_m8 130 rfl) rfl
theorem q1948 : (Jvm.Cond.selects "GathersAllFaults" ({ cls := "GathersAllFaults", name := "check", desc := "()I" } : Jvm.MethodName) ({ cls := "GathersAllFaults", name := "check", desc := "()I" } : Jvm.MethodName)) ∈ lw_all := lw_g (lw_at lw_m8 131 rfl) rfl
theorem q1949 : (Jvm.Cond.code ({ cls := "GathersAllFaults", name := "check", desc := "()I" } : Jvm.MethodName) prog_1_method_66_code (1 : Nat) (Option.some Jvm.ClassFile.FieldType.int)) ∈ lw_all := lw_g (lw_at lw_m8 132 rfl) rfl
theorem q1951 : (Jvm.Cond.instanceMethod ({ cls := "GathersAllFaults", name := "part", desc := "(II)I" } : Jvm.MethodName)) ∈ lw_all := lw_g (lw_at lw_m8 134 rfl) rfl
theorem q1952 : (Jvm.Cond.selects "GathersAllFaults" ({ cls := "GathersAllFaults", name := "part", desc := "(II)I" } : Jvm.MethodName) ({ cls := "GathersAllFaults", name := "part", desc := "(II)I" } : Jvm.MethodName)) ∈ lw_all := lw_g (lw_at lw_m8 135 rfl) rfl
theorem q1953 : (Jvm.Cond.code ({ cls := "GathersAllFaults", name := "part", desc := "(II)I" } : Jvm.MethodName) prog_1_method_67_code (3 : Nat) (Option.some Jvm.ClassFile.FieldType.int)) ∈ lw_all := lw_g (lw_at lw_m8 136 rfl) rfl
theorem q1955 : (Jvm.Cond.instanceMethod ({ cls := "GathersAllFaults", name := "path", desc := "(I)I" } : Jvm.MethodName)) ∈ lw_all := lw_g (lw_at lw_m8 138 rfl) rfl
theorem q1956 : (Jvm.Cond.selects "GathersAllFaults" ({ cls := "GathersAllFaults", name := "path", desc := "(I)I" } : Jvm.MethodName) ({ cls := "GathersAllFaults", name := "path", desc := "(I)I" } : Jvm.MethodName)) ∈ lw_all := lw_g (lw_at lw_m8 139 rfl) rfl
theorem q1957 : (Jvm.Cond.code ({ cls := "GathersAllFaults", name := "path", desc := "(I)I" } : Jvm.MethodName) prog_1_method_68_code (2 : Nat) (Option.some Jvm.ClassFile.FieldType.int)) ∈ lw_all := lw_g (lw_at lw_m8 140 rfl) rfl
theorem q1959 : (Jvm.Cond.instanceMethod ({ cls := "GathersAllFaults", name := "puts", desc := "(II)I" } : Jvm.MethodName)) ∈ lw_all := lw_g (lw_at lw_m8 142 rfl) rfl
theorem q1960 : (Jvm.Cond.selects "GathersAllFaults" ({ cls := "GathersAllFaults", name := "puts", desc := "(II)I" } : Jvm.MethodName) ({ cls := "GathersAllFaults", name := "puts", desc := "(II)I" } : Jvm.MethodName)) ∈ lw_all := lw_g (lw_at lw_m8 143 rfl) rfl
theorem q1961 : (Jvm.Cond.code ({ cls := "GathersAllFaults", name := "puts", desc := "(II)I" } : Jvm.MethodName) prog_1_method_69_code (3 : Nat) (Option.some Jvm.ClassFile.FieldType.int)) ∈ lw_all := lw_g (lw_at lw_m8 144 rfl) rfl
theorem q1963 : (Jvm.Cond.instanceMethod ({ cls := "GathersAllFaults", name := "drops", desc := "(I)I" } : Jvm.MethodName)) ∈ lw_all := lw_g (lw_at lw_m8 146 rfl) rfl
theorem q1964 : (Jvm.Cond.selects "GathersAllFaults" ({ cls := "GathersAllFaults", name := "drops", desc := "(I)I" } : Jvm.MethodName) ({ cls := "GathersAllFaults", name := "drops", desc := "(I)I" } : Jvm.MethodName)) ∈ lw_all := lw_g (lw_at lw_m8 147 rfl) rfl
theorem q1965 : (Jvm.Cond.code ({ cls := "GathersAllFaults", name := "drops", desc := "(I)I" } : Jvm.MethodName) prog_1_method_70_code (2 : Nat) (Option.some Jvm.ClassFile.FieldType.int)) ∈ lw_all := lw_g (lw_at lw_m8 148 rfl) rfl
theorem q1967 : (Jvm.Cond.instanceMethod ({ cls := "GathersAllFaults", name := "faults", desc := "()I" } : Jvm.MethodName)) ∈ lw_all := lw_g (lw_at lw_m8 150 rfl) rfl
theorem q1968 : (Jvm.Cond.selects "GathersAllFaults" ({ cls := "GathersAllFaults", name := "faults", desc := "()I" } : Jvm.MethodName) ({ cls := "GathersAllFaults", name := "faults", desc := "()I" } : Jvm.MethodName)) ∈ lw_all := lw_g (lw_at lw_m8 151 rfl) rfl
theorem q1969 : (Jvm.Cond.code ({ cls := "GathersAllFaults", name := "faults", desc := "()I" } : Jvm.MethodName) prog_1_method_71_code (1 : Nat) (Option.some Jvm.ClassFile.FieldType.int)) ∈ lw_all := lw_g (lw_at lw_m8 152 rfl) rfl
theorem q1971 : (Jvm.Cond.instanceMethod ({ cls := "GathersAllFaults", name := "fault", desc := "(II)I" } : Jvm.MethodName)) ∈ lw_all := lw_g (lw_at lw_m8 154 rfl) rfl
theorem q1972 : (Jvm.Cond.selects "GathersAllFaults" ({ cls := "GathersAllFaults", name := "fault", desc := "(II)I" } : Jvm.MethodName) ({ cls := "GathersAllFaults", name := "fault", desc := "(II)I" } : Jvm.MethodName)) ∈ lw_all := lw_g (lw_at lw_m8 155 rfl) rfl
theorem q1973 : (Jvm.Cond.code ({ cls := "GathersAllFaults", name := "fault", desc := "(II)I" } : Jvm.MethodName) prog_1_method_72_code (3 : Nat) (Option.some Jvm.ClassFile.FieldType.int)) ∈ lw_all := lw_g (lw_at lw_m8 156 rfl) rfl
theorem q1975 : (Jvm.Cond.instanceMethod ({ cls := "GathersAllFaults", name := "coded", desc := "(I)I" } : Jvm.MethodName)) ∈ lw_all := lw_g (lw_at lw_m8 158 rfl) rfl
theorem q1976 : (Jvm.Cond.selects "GathersAllFaults" ({ cls := "GathersAllFaults", name := "coded", desc := "(I)I" } : Jvm.MethodName) ({ cls := "GathersAllFaults", name := "coded", desc := "(I)I" } : Jvm.MethodName)) ∈ lw_all := lw_g (lw_at lw_m8 159 rfl) rfl
theorem q1977 : (Jvm.Cond.code ({ cls := "GathersAllFaults", name := "coded", desc := "(I)I" } : Jvm.MethodName) prog_1_method_73_code (2 : Nat) (Option.some Jvm.ClassFile.FieldType.int)) ∈ lw_all := lw_g (lw_at lw_m8 160 rfl) rfl
theorem q1979 : (Jvm.Cond.instanceMethod ({ cls := "GathersAllFaults", name := "below", desc := "(I)I" } : Jvm.MethodName)) ∈ lw_all := lw_g (lw_at lw_m8 162 rfl) rfl
theorem q1980 : (Jvm.Cond.selects "GathersAllFaults" ({ cls := "GathersAllFaults", name := "below", desc := "(I)I" } : Jvm.MethodName) ({ cls := "GathersAllFaults", name := "below", desc := "(I)I" } : Jvm.MethodName)) ∈ lw_all := lw_g (lw_at lw_m8 163 rfl) rfl
theorem q1981 : (Jvm.Cond.code ({ cls := "GathersAllFaults", name := "below", desc := "(I)I" } : Jvm.MethodName) prog_1_method_74_code (2 : Nat) (Option.some Jvm.ClassFile.FieldType.int)) ∈ lw_all := lw_g (lw_at lw_m8 164 rfl) rfl
theorem q1983 : (Jvm.Cond.instanceMethod ({ cls := "GathersAllFaults", name := "waits", desc := "()I" } : Jvm.MethodName)) ∈ lw_all := lw_g (lw_at lw_m8 166 rfl) rfl
theorem q1984 : (Jvm.Cond.selects "GathersAllFaults" ({ cls := "GathersAllFaults", name := "waits", desc := "()I" } : Jvm.MethodName) ({ cls := "GathersAllFaults", name := "waits", desc := "()I" } : Jvm.MethodName)) ∈ lw_all := lw_g (lw_at lw_m8 167 rfl) rfl
theorem q1985 : (Jvm.Cond.code ({ cls := "GathersAllFaults", name := "waits", desc := "()I" } : Jvm.MethodName) prog_1_method_75_code (1 : Nat) (Option.some Jvm.ClassFile.FieldType.int)) ∈ lw_all := lw_g (lw_at lw_m8 168 rfl) rfl
theorem q1987 : (Jvm.Cond.instanceMethod ({ cls := "GathersAllFaults", name := "first", desc := "()I" } : Jvm.MethodName)) ∈ lw_all := lw_g (lw_at lw_m8 170 rfl) rfl
theorem q1988 : (Jvm.Cond.selects "GathersAllFaults" ({ cls := "GathersAllFaults", name := "first", desc := "()I" } : Jvm.MethodName) ({ cls := "GathersAllFaults", name := "first", desc := "()I" } : Jvm.MethodName)) ∈ lw_all := lw_g (lw_at lw_m8 171 rfl) rfl
theorem q1989 : (Jvm.Cond.code ({ cls := "GathersAllFaults", name := "first", desc := "()I" } : Jvm.MethodName) prog_1_method_76_code (1 : Nat) (Option.some Jvm.ClassFile.FieldType.int)) ∈ lw_all := lw_g (lw_at lw_m8 172 rfl) rfl
theorem q1991 : (Jvm.Cond.instanceMethod ({ cls := "GathersAllFaults", name := "limited", desc := "(II)I" } : Jvm.MethodName)) ∈ lw_all := lw_g (lw_at lw_m8 174 rfl) rfl
theorem q1992 : (Jvm.Cond.selects "GathersAllFaults" ({ cls := "GathersAllFaults", name := "limited", desc := "(II)I" } : Jvm.MethodName) ({ cls := "GathersAllFaults", name := "limited", desc := "(II)I" } : Jvm.MethodName)) ∈ lw_all := lw_g (lw_at lw_m8 175 rfl) rfl
theorem q1993 : (Jvm.Cond.code ({ cls := "GathersAllFaults", name := "limited", desc := "(II)I" } : Jvm.MethodName) prog_1_method_77_code (3 : Nat) (Option.some Jvm.ClassFile.FieldType.int)) ∈ lw_all := lw_g (lw_at lw_m8 176 rfl) rfl
theorem q1995 : (Jvm.Cond.instanceMethod ({ cls := "GathersAllFaults", name := "total", desc := "()I" } : Jvm.MethodName)) ∈ lw_all := lw_g (lw_at lw_m8 178 rfl) rfl
theorem q1996 : (Jvm.Cond.selects "GathersAllFaults" ({ cls := "GathersAllFaults", name := "total", desc := "()I" } : Jvm.MethodName) ({ cls := "GathersAllFaults", name := "total", desc := "()I" } : Jvm.MethodName)) ∈ lw_all := lw_g (lw_at lw_m8 179 rfl) rfl
theorem q1997 : (Jvm.Cond.code ({ cls := "GathersAllFaults", name := "total", desc := "()I" } : Jvm.MethodName) prog_1_method_78_code (1 : Nat) (Option.some Jvm.ClassFile.FieldType.int)) ∈ lw_all := lw_g (lw_at lw_m8 180 rfl) rfl
theorem q1999 : (Jvm.Cond.instanceMethod ({ cls := "GathersAllFaults", name := "same", desc := "(II)I" } : Jvm.MethodName)) ∈ lw_all := lw_g (lw_at lw_m8 182 rfl) rfl
theorem q2000 : (Jvm.Cond.selects "GathersAllFaults" ({ cls := "GathersAllFaults", name := "same", desc := "(II)I" } : Jvm.MethodName) ({ cls := "GathersAllFaults", name := "same", desc := "(II)I" } : Jvm.MethodName)) ∈ lw_all := lw_g (lw_at lw_m8 183 rfl) rfl
theorem q2001 : (Jvm.Cond.code ({ cls := "GathersAllFaults", name := "same", desc := "(II)I" } : Jvm.MethodName) prog_1_method_79_code (3 : Nat) (Option.some Jvm.ClassFile.FieldType.int)) ∈ lw_all := lw_g (lw_at lw_m8 184 rfl) rfl
theorem q2003 : (Jvm.Cond.instanceMethod ({ cls := "GathersAllFaults", name := "different", desc := "()I" } : Jvm.MethodName)) ∈ lw_all := lw_g (lw_at lw_m8 186 rfl) rfl
theorem q2004 : (Jvm.Cond.selects "GathersAllFaults" ({ cls := "GathersAllFaults", name := "different", desc := "()I" } : Jvm.MethodName) ({ cls := "GathersAllFaults", name := "different", desc := "()I" } : Jvm.MethodName)) ∈ lw_all := lw_g (lw_at lw_m8 187 rfl) rfl
theorem q2005 : (Jvm.Cond.code ({ cls := "GathersAllFaults", name := "different", desc := "()I" } : Jvm.MethodName) prog_1_method_80_code (1 : Nat) (Option.some Jvm.ClassFile.FieldType.int)) ∈ lw_all := lw_g (lw_at lw_m8 188 rfl) rfl
theorem q2007 : (Jvm.Cond.instanceMethod ({ cls := "GathersAllFaults", name := "often", desc := "(I)I" } : Jvm.MethodName)) ∈ lw_all := lw_g (lw_at lw_m8 190 rfl) rfl
theorem q2008 : (Jvm.Cond.selects "GathersAllFaults" ({ cls := "GathersAllFaults", name := "often", desc := "(I)I" } : Jvm.MethodName) ({ cls := "GathersAllFaults", name := "often", desc := "(I)I" } : Jvm.MethodName)) ∈ lw_all := lw_g (lw_at lw_m8 191 rfl) rfl
theorem q2009 : (Jvm.Cond.code ({ cls := "GathersAllFaults", name := "often", desc := "(I)I" } : Jvm.MethodName) prog_1_method_81_code (2 : Nat) (Option.some Jvm.ClassFile.FieldType.int)) ∈ lw_all := lw_g (lw_at lw_m8 192 rfl) rfl
theorem q2011 : (Jvm.Cond.instanceMethod ({ cls := "GathersAllFaults", name := "without", desc := "(I)I" } : Jvm.MethodName)) ∈ lw_all := lw_g (lw_at lw_m8 194 rfl) rfl
theorem q2012 : (Jvm.Cond.selects "GathersAllFaults" ({ cls := "GathersAllFaults", name := "without", desc := "(I)I" } : Jvm.MethodName) ({ cls := "GathersAllFaults", name := "without", desc := "(I)I" } : Jvm.MethodName)) ∈ lw_all := lw_g (lw_at lw_m8 195 rfl) rfl
theorem q2013 : (Jvm.Cond.code ({ cls := "GathersAllFaults", name := "without", desc := "(I)I" } : Jvm.MethodName) prog_1_method_82_code (2 : Nat) (Option.some Jvm.ClassFile.FieldType.int)) ∈ lw_all := lw_g (lw_at lw_m8 196 rfl) rfl
theorem q2015 : (Jvm.Cond.instanceMethod ({ cls := "GathersAllFaults", name := "mend", desc := "(I)I" } : Jvm.MethodName)) ∈ lw_all := lw_g (lw_at lw_m8 198 rfl) rfl
theorem q2016 : (Jvm.Cond.selects "GathersAllFaults" ({ cls := "GathersAllFaults", name := "mend", desc := "(I)I" } : Jvm.MethodName) ({ cls := "GathersAllFaults", name := "mend", desc := "(I)I" } : Jvm.MethodName)) ∈ lw_all := lw_g (lw_at lw_m8 199 rfl) rfl
theorem q2017 : (Jvm.Cond.code ({ cls := "GathersAllFaults", name := "mend", desc := "(I)I" } : Jvm.MethodName) prog_1_method_83_code (2 : Nat) (Option.some Jvm.ClassFile.FieldType.int)) ∈ lw_all := lw_g (lw_at lw_m8 200 rfl) rfl
theorem q2019 : (Jvm.Cond.instanceMethod ({ cls := "GathersAllFaults", name := "range", desc := "(II)I" } : Jvm.MethodName)) ∈ lw_all := lw_g (lw_at lw_m8 202 rfl) rfl
theorem q2020 : (Jvm.Cond.selects "GathersAllFaults" ({ cls := "GathersAllFaults", name := "range", desc := "(II)I" } : Jvm.MethodName) ({ cls := "GathersAllFaults", name := "range", desc := "(II)I" } : Jvm.MethodName)) ∈ lw_all := lw_g (lw_at lw_m8 203 rfl) rfl
theorem q2021 : (Jvm.Cond.code ({ cls := "GathersAllFaults", name := "range", desc := "(II)I" } : Jvm.MethodName) prog_1_method_84_code (3 : Nat) (Option.some Jvm.ClassFile.FieldType.int)) ∈ lw_all := lw_g (lw_at lw_m8 204 rfl) rfl
theorem q2023 : (Jvm.Cond.instanceMethod ({ cls := "GathersAllFaults", name := "loss", desc := "(II)J" } : Jvm.MethodName)) ∈ lw_all := lw_g (lw_at lw_m8 206 rfl) rfl
theorem q2024 : (Jvm.Cond.selects "GathersAllFaults" ({ cls := "GathersAllFaults", name := "loss", desc := "(II)J" } : Jvm.MethodName) ({ cls := "GathersAllFaults", name := "loss", desc := "(II)J" } : Jvm.MethodName)) ∈ lw_all := lw_g (lw_at lw_m8 207 rfl) rfl
theorem q2025 : (Jvm.Cond.code ({ cls := "GathersAllFaults", name := "loss", desc := "(II)J" } : Jvm.MethodName) prog_1_method_85_code (3 : Nat) (Option.some Jvm.ClassFile.FieldType.long)) ∈ lw_all := lw_g (lw_at lw_m8 208 rfl) rfl
theorem q2026 : (Jvm.Cond.methodLink "GathersAllFaults" (458 : Nat) ({ cls := "GathersAllFaults", name := "lossTold", desc := "(II)J" } : Jvm.MethodName)) ∈ lw_all := lw_g (lw_at lw_m8 209 rfl) rfl
theorem q2027 : (Jvm.Cond.privateMethod ({ cls := "GathersAllFaults", name := "lossTold", desc := "(II)J" } : Jvm.MethodName)) ∈ lw_tbl := lw_at lw_m8 210 rfl
theorem q2028 : (Jvm.Cond.instanceMethod ({ cls := "GathersAllFaults", name := "lossTold", desc := "(II)J" } : Jvm.MethodName)) ∈ lw_all := lw_g (lw_at lw_m8 211 rfl) rfl
theorem q2029 : (Jvm.Cond.codeWith ({ cls := "GathersAllFaults", name := "lossTold", desc := "(II)J" } : Jvm.MethodName) prog_1_method_60_code (4 : Nat) (Option.some Jvm.ClassFile.FieldType.long) [((0 : Nat), (21 : Nat), (22 : Nat), (342 : Nat))]) ∈ lw_all := lw_g (lw_at lw_m8 212 rfl) rfl
theorem q2030 : (Jvm.Cond.constantLong "GathersAllFaults" (442 : Nat) (2 : Int64)) ∈ lw_all := lw_g (lw_at lw_m8 213 rfl) rfl
theorem q2031 : (Jvm.Cond.methodLink "GathersAllFaults" (444 : Nat) ({ cls := "GathersAllFaults", name := "lossPart", desc := "(II)J" } : Jvm.MethodName)) ∈ lw_all := lw_g (lw_at lw_m8 214 rfl) rfl
theorem q2032 : (Jvm.Cond.privateMethod ({ cls := "GathersAllFaults", name := "lossPart", desc := "(II)J" } : Jvm.MethodName)) ∈ lw_tbl := lw_at lw_m8 215 rfl
theorem q2033 : (Jvm.Cond.instanceMethod ({ cls := "GathersAllFaults", name := "lossPart", desc := "(II)J" } : Jvm.MethodName)) ∈ lw_all := lw_g (lw_at lw_m8 216 rfl) rfl
theorem q2034 : (Jvm.Cond.code ({ cls := "GathersAllFaults", name := "lossPart", desc := "(II)J" } : Jvm.MethodName) prog_1_method_39_code (13 : Nat) (Option.some Jvm.ClassFile.FieldType.long)) ∈ lw_all := lw_g (lw_at lw_m8 217 rfl) rfl
theorem q2035 : (Jvm.Cond.methodLink "GathersAllFaults" (286 : Nat) ({ cls := "GathersAllFaults$Row", name := "add", desc := "(LGathersAllFaults$Placed;)V" } : Jvm.MethodName)) ∈ lw_all := lw_g (lw_at lw_m8 218 rfl) rfl
theorem q2036 : (Jvm.Cond.methodLink "GathersAllFaults" (289 : Nat) ({ cls := "GathersAllFaults", name := "has", desc := "(II)Z" } : Jvm.MethodName)) ∈ lw_all := lw_g (lw_at lw_m8 219 rfl) rfl
theorem q2037 : (Jvm.Cond.static ({ cls := "GathersAllFaults", name := "has", desc := "(II)Z" } : Jvm.MethodName)) ∈ lw_all := lw_g (lw_at lw_m8 220 rfl) rfl
theorem q2038 : (Jvm.Cond.code ({ cls := "GathersAllFaults", name := "has", desc := "(II)Z" } : Jvm.MethodName) prog_1_method_5_code (2 : Nat) (Option.some Jvm.ClassFile.FieldType.boolean)) ∈ lw_all := lw_g (lw_at lw_m8 221 rfl) rfl
theorem q2039 : (Jvm.Cond.methodLink "GathersAllFaults" (297 : Nat) ({ cls := "GathersAllFaults", name := "partOf", desc := "(JJI)J" } : Jvm.MethodName)) ∈ lw_all := lw_g (lw_at lw_m8 222 rfl) rfl
theorem q2040 : (Jvm.Cond.static ({ cls := "GathersAllFaults", name := "partOf", desc := "(JJI)J" } : Jvm.MethodName)) ∈ lw_all := lw_g (lw_at lw_m8 223 rfl) rfl
theorem q2041 : (Jvm.Cond.code ({ cls := "GathersAllFaults", name := "partOf", desc := "(JJI)J" } : Jvm.MethodName) prog_1_method_8_code (7 : Nat) (Option.some Jvm.ClassFile.FieldType.long)) ∈ lw_all := lw_g (lw_at lw_m8 224 rfl) rfl
theorem q2042 : (Jvm.Cond.methodLink "GathersAllFaults" (17 : Nat) ({ cls := "GathersAllFaults", name := "divisor", desc := "(JJ)J" } : Jvm.MethodName)) ∈ lw_all := lw_g (lw_at lw_m8 225 rfl) rfl
theorem q2043 : (Jvm.Cond.static ({ cls := "GathersAllFaults", name := "divisor", desc := "(JJ)J" } : Jvm.MethodName)) ∈ lw_all := lw_g (lw_at lw_m8 226 rfl) rfl
theorem q2044 : (Jvm.Cond.code ({ cls := "GathersAllFaults", name := "divisor", desc := "(JJ)J" } : Jvm.MethodName) prog_1_method_7_code (4 : Nat) (Option.some Jvm.ClassFile.FieldType.long)) ∈ lw_all := lw_g (lw_at lw_m8 227 rfl) rfl
theorem q2045 : (Jvm.Cond.methodLink "GathersAllFaults" (448 : Nat) ({ cls := "GathersAllFaults", name := "far", desc := "(LGathersAllFaults$Refusal;)J" } : Jvm.MethodName)) ∈ lw_all := lw_g (lw_at lw_m8 228 rfl) rfl
theorem q2046 : (Jvm.Cond.privateMethod ({ cls := "GathersAllFaults", name := "far", desc := "(LGathersAllFaults$Refusal;)J" } : Jvm.MethodName)) ∈ lw_tbl := lw_at lw_m8 229 rfl
theorem q2047 : (Jvm.Cond.instanceMethod ({ cls := "GathersAllFaults", name := "far", desc := "(LGathersAllFaults$Refusal;)J" } : Jvm.MethodName)) ∈ lw_all := lw_g (lw_at lw_m8 230 rfl) rfl
theorem q2048 : (Jvm.Cond.code ({ cls := "GathersAllFaults", name := "far", desc := "(LGathersAllFaults$Refusal;)J" } : Jvm.MethodName) prog_1_method_49_code (2 : Nat) (Option.some Jvm.ClassFile.FieldType.long)) ∈ lw_all := lw_g (lw_at lw_m8 231 rfl) rfl
theorem q2049 : (Jvm.Cond.constantLong "GathersAllFaults" (350 : Nat) (4000000000000000000 : Int64)) ∈ lw_all := lw_g (lw_at lw_m8 232 rfl) rfl
theorem q2051 : (Jvm.Cond.instanceMethod ({ cls := "GathersAllFaults", name := "mean", desc := "(I)J" } : Jvm.MethodName)) ∈ lw_all := lw_g (lw_at lw_m8 234 rfl) rfl
theorem q2052 : (Jvm.Cond.selects "GathersAllFaults" ({ cls := "GathersAllFaults", name := "mean", desc := "(I)J" } : Jvm.MethodName) ({ cls := "GathersAllFaults", name := "mean", desc := "(I)J" } : Jvm.MethodName)) ∈ lw_all := lw_g (lw_at lw_m8 235 rfl) rfl
theorem q2053 : (Jvm.Cond.code ({ cls := "GathersAllFaults", name := "mean", desc := "(I)J" } : Jvm.MethodName) prog_1_method_86_code (2 : Nat) (Option.some Jvm.ClassFile.FieldType.long)) ∈ lw_all := lw_g (lw_at lw_m8 236 rfl) rfl
theorem q2054 : (Jvm.Cond.methodLink "GathersAllFaults" (461 : Nat) ({ cls := "GathersAllFaults", name := "meanTold", desc := "(I)J" } : Jvm.MethodName)) ∈ lw_all := lw_g (lw_at lw_m8 237 rfl) rfl
theorem q2055 : (Jvm.Cond.privateMethod ({ cls := "GathersAllFaults", name := "meanTold", desc := "(I)J" } : Jvm.MethodName)) ∈ lw_tbl := lw_at lw_m8 238 rfl
theorem q2056 : (Jvm.Cond.instanceMethod ({ cls := "GathersAllFaults", name := "meanTold", desc := "(I)J" } : Jvm.MethodName)) ∈ lw_all := lw_g (lw_at lw_m8 239 rfl) rfl
theorem q2057 : (Jvm.Cond.codeWith ({ cls := "GathersAllFaults", name := "meanTold", desc := "(I)J" } : Jvm.MethodName) prog_1_method_61_code (3 : Nat) (Option.some Jvm.ClassFile.FieldType.long) [((0 : Nat), (27 : Nat), (28 : Nat), (342 : Nat))]) ∈ lw_all := lw_g (lw_at lw_m9 0 rfl) rfl
theorem q2059 : (Jvm.Cond.instanceMethod ({ cls := "GathersAllFaults", name := "which", desc := "(I)I" } : Jvm.MethodName)) ∈ lw_all := lw_g (lw_at lw_m9 2 rfl) rfl
theorem q2060 : (Jvm.Cond.selects "GathersAllFaults" ({ cls := "GathersAllFaults", name := "which", desc := "(I)I" } : Jvm.MethodName) ({ cls := "GathersAllFaults", name := "which", desc := "(I)I" } : Jvm.MethodName)) ∈ lw_all := lw_g (lw_at lw_m9 3 rfl) rfl
theorem q2061 : (Jvm.Cond.code ({ cls := "GathersAllFaults", name := "which", desc := "(I)I" } : Jvm.MethodName) prog_1_method_87_code (2 : Nat) (Option.some Jvm.ClassFile.FieldType.int)) ∈ lw_all := lw_g (lw_at lw_m9 4 rfl) rfl
theorem q2063 : (Jvm.Cond.instanceMethod ({ cls := "GathersAllFaults", name := "row", desc := "(I)I" } : Jvm.MethodName)) ∈ lw_all := lw_g (lw_at lw_m9 6 rfl) rfl
theorem q2064 : (Jvm.Cond.selects "GathersAllFaults" ({ cls := "GathersAllFaults", name := "row", desc := "(I)I" } : Jvm.MethodName) ({ cls := "GathersAllFaults", name := "row", desc := "(I)I" } : Jvm.MethodName)) ∈ lw_all := lw_g (lw_at lw_m9 7 rfl) rfl
theorem q2065 : (Jvm.Cond.code ({ cls := "GathersAllFaults", name := "row", desc := "(I)I" } : Jvm.MethodName) prog_1_method_88_code (2 : Nat) (Option.some Jvm.ClassFile.FieldType.int)) ∈ lw_all := lw_g (lw_at lw_m9 8 rfl) rfl
theorem q2067 : (Jvm.Cond.instanceMethod ({ cls := "GathersAllFaults", name := "judge", desc := "()I" } : Jvm.MethodName)) ∈ lw_all := lw_g (lw_at lw_m9 10 rfl) rfl
theorem q2068 : (Jvm.Cond.selects "GathersAllFaults" ({ cls := "GathersAllFaults", name := "judge", desc := "()I" } : Jvm.MethodName) ({ cls := "GathersAllFaults", name := "judge", desc := "()I" } : Jvm.MethodName)) ∈ lw_all := lw_g (lw_at lw_m9 11 rfl) rfl
theorem q2069 : (Jvm.Cond.code ({ cls := "GathersAllFaults", name := "judge", desc := "()I" } : Jvm.MethodName) prog_1_method_89_code (1 : Nat) (Option.some Jvm.ClassFile.FieldType.int)) ∈ lw_all := lw_g (lw_at lw_m9 12 rfl) rfl
theorem q2071 : (Jvm.Cond.instanceMethod ({ cls := "GathersAllFaults", name := "clear", desc := "()I" } : Jvm.MethodName)) ∈ lw_all := lw_g (lw_at lw_m9 14 rfl) rfl
theorem q2072 : (Jvm.Cond.selects "GathersAllFaults" ({ cls := "GathersAllFaults", name := "clear", desc := "()I" } : Jvm.MethodName) ({ cls := "GathersAllFaults", name := "clear", desc := "()I" } : Jvm.MethodName)) ∈ lw_all := lw_g (lw_at lw_m9 15 rfl) rfl
theorem q2073 : (Jvm.Cond.code ({ cls := "GathersAllFaults", name := "clear", desc := "()I" } : Jvm.MethodName) prog_1_method_90_code (1 : Nat) (Option.some Jvm.ClassFile.FieldType.int)) ∈ lw_all := lw_g (lw_at lw_m9 16 rfl) rfl
theorem q2075 : (Jvm.Cond.instanceMethod ({ cls := "GathersAllFaults", name := "lots", desc := "(III)I" } : Jvm.MethodName)) ∈ lw_all := lw_g (lw_at lw_m9 18 rfl) rfl
theorem q2076 : (Jvm.Cond.selects "GathersAllFaults" ({ cls := "GathersAllFaults", name := "lots", desc := "(III)I" } : Jvm.MethodName) ({ cls := "GathersAllFaults", name := "lots", desc := "(III)I" } : Jvm.MethodName)) ∈ lw_all := lw_g (lw_at lw_m9 19 rfl) rfl
theorem q2077 : (Jvm.Cond.code ({ cls := "GathersAllFaults", name := "lots", desc := "(III)I" } : Jvm.MethodName) prog_1_method_91_code (4 : Nat) (Option.some Jvm.ClassFile.FieldType.int)) ∈ lw_all := lw_g (lw_at lw_m9 20 rfl) rfl
theorem q2079 : (Jvm.Cond.instanceMethod ({ cls := "GathersAllFaults", name := "image", desc := "()I" } : Jvm.MethodName)) ∈ lw_all := lw_g (lw_at lw_m9 22 rfl) rfl
theorem q2080 : (Jvm.Cond.selects "GathersAllFaults" ({ cls := "GathersAllFaults", name := "image", desc := "()I" } : Jvm.MethodName) ({ cls := "GathersAllFaults", name := "image", desc := "()I" } : Jvm.MethodName)) ∈ lw_all := lw_g (lw_at lw_m9 23 rfl) rfl
theorem q2081 : (Jvm.Cond.code ({ cls := "GathersAllFaults", name := "image", desc := "()I" } : Jvm.MethodName) prog_1_method_92_code (1 : Nat) (Option.some Jvm.ClassFile.FieldType.int)) ∈ lw_all := lw_g (lw_at lw_m9 24 rfl) rfl
theorem q2083 : (Jvm.Cond.instanceMethod ({ cls := "GathersAllFaults", name := "on", desc := "()I" } : Jvm.MethodName)) ∈ lw_all := lw_g (lw_at lw_m9 26 rfl) rfl
theorem q2084 : (Jvm.Cond.selects "GathersAllFaults" ({ cls := "GathersAllFaults", name := "on", desc := "()I" } : Jvm.MethodName) ({ cls := "GathersAllFaults", name := "on", desc := "()I" } : Jvm.MethodName)) ∈ lw_all := lw_g (lw_at lw_m9 27 rfl) rfl
theorem q2085 : (Jvm.Cond.code ({ cls := "GathersAllFaults", name := "on", desc := "()I" } : Jvm.MethodName) prog_1_method_93_code (1 : Nat) (Option.some Jvm.ClassFile.FieldType.int)) ∈ lw_all := lw_g (lw_at lw_m9 28 rfl) rfl
theorem q2087 : (Jvm.Cond.instanceMethod ({ cls := "GathersAllFaults", name := "count", desc := "(I)I" } : Jvm.MethodName)) ∈ lw_all := lw_g (lw_at lw_m9 30 rfl) rfl
theorem q2088 : (Jvm.Cond.selects "GathersAllFaults" ({ cls := "GathersAllFaults", name := "count", desc := "(I)I" } : Jvm.MethodName) ({ cls := "GathersAllFaults", name := "count", desc := "(I)I" } : Jvm.MethodName)) ∈ lw_all := lw_g (lw_at lw_m9 31 rfl) rfl
theorem q2089 : (Jvm.Cond.code ({ cls := "GathersAllFaults", name := "count", desc := "(I)I" } : Jvm.MethodName) prog_1_method_94_code (2 : Nat) (Option.some Jvm.ClassFile.FieldType.int)) ∈ lw_all := lw_g (lw_at lw_m9 32 rfl) rfl
theorem q2090 : (Jvm.Cond.methodLink "GathersAllFaults" (465 : Nat) ({ cls := "GathersAllFaults", name := "numbersOf", desc := "()I" } : Jvm.MethodName)) ∈ lw_all := lw_g (lw_at lw_m9 33 rfl) rfl
theorem q2091 : (Jvm.Cond.privateMethod ({ cls := "GathersAllFaults", name := "numbersOf", desc := "()I" } : Jvm.MethodName)) ∈ lw_tbl := lw_at lw_m9 34 rfl
theorem q2092 : (Jvm.Cond.instanceMethod ({ cls := "GathersAllFaults", name := "numbersOf", desc := "()I" } : Jvm.MethodName)) ∈ lw_all := lw_g (lw_at lw_m9 35 rfl) rfl
theorem q2093 : (Jvm.Cond.code ({ cls := "GathersAllFaults", name := "numbersOf", desc := "()I" } : Jvm.MethodName) prog_1_method_62_code (4 : Nat) (Option.some Jvm.ClassFile.FieldType.int)) ∈ lw_all := lw_g (lw_at lw_m9 36 rfl) rfl
theorem q2094 : (Jvm.Cond.methodLink "GathersAllFaults" (468 : Nat) ({ cls := "GathersAllFaults", name := "greatestPath", desc := "()I" } : Jvm.MethodName)) ∈ lw_all := lw_g (lw_at lw_m9 37 rfl) rfl
theorem q2095 : (Jvm.Cond.privateMethod ({ cls := "GathersAllFaults", name := "greatestPath", desc := "()I" } : Jvm.MethodName)) ∈ lw_tbl := lw_at lw_m9 38 rfl
theorem q2096 : (Jvm.Cond.instanceMethod ({ cls := "GathersAllFaults", name := "greatestPath", desc := "()I" } : Jvm.MethodName)) ∈ lw_all := lw_g (lw_at lw_m9 39 rfl) rfl
theorem q2097 : (Jvm.Cond.code ({ cls := "GathersAllFaults", name := "greatestPath", desc := "()I" } : Jvm.MethodName) prog_1_method_63_code (4 : Nat) (Option.some Jvm.ClassFile.FieldType.int)) ∈ lw_all := lw_g (lw_at lw_m9 40 rfl) rfl
theorem q2098 : (Jvm.Cond.methodLink "GathersAllFaults" (452 : Nat) ({ cls := "java/lang/Math", name := "max", desc := "(II)I" } : Jvm.MethodName)) ∈ lw_all := lw_g (lw_at lw_m9 41 rfl) rfl
theorem q2101 : (Jvm.Cond.constantLong "GathersAllFaults" (471 : Nat) (11 : Int64)) ∈ lw_all := lw_g (lw_at lw_m9 44 rfl) rfl
theorem q2102 : (Jvm.Cond.constantLong "GathersAllFaults" (473 : Nat) (16 : Int64)) ∈ lw_all := lw_g (lw_at lw_m9 45 rfl) rfl
theorem q2739 : (Jvm.Cond.castable "GathersAllFaults" "java/lang/Object") ∈ lw_tbl := lw_at lw_m11 202 rfl
theorem in_X0 : ∀ w ∈ wsX00, w ∈ lw_all := lw_in wsX00 [284, 286, 288, 290, 292, 294, 296, 298, 300, 302, 304, 306, 308, 310, 312, 314, 316] (by decide +kernel) (by decide +kernel)

/-! GathersAllFaults$Value -/
set_option maxRecDepth 100000
def RX1 : String := "GathersAllFaults$Value"
abbrev cX1_init : ByteArray := prog_23_method_1_code
def yX1_init : MethodName := ⟨RX1, "<init>", "()V"⟩
theorem dX1_init_0 : decode cX1_init 0 = .ok (.aload_n 0, 1) := by decide +kernel
theorem dX1_init_1 : decode cX1_init 1 = .ok (.invokespecial 1, 3) := by decide +kernel
theorem dX1_init_4 : decode cX1_init 4 = .ok (.return_, 1) := by decide +kernel
abbrev cX1_layAll : ByteArray := prog_23_method_11_code
def yX1_layAll : MethodName := ⟨RX1, "layAll", "(LGathersAllFaults$Row;I)V"⟩
def dkwX1_layAll_0 : List UInt8 := [43, 187, 0, 7, 89, 28, 42, 183, 0, 9, 182, 0, 12, 42, 43, 28, 182, 0, 18, 177]
abbrev dktX1_layAll_0 : List UInt8 := dkwX1_layAll_0 ++ []
theorem dksX1_layAll_0 : cX1_layAll.data.toList.drop 0 = dktX1_layAll_0 := by decide +kernel
theorem dX1_layAll_0 : decode cX1_layAll 0 = .ok (.aload_n 1, 1) := dk_43 (dk_at dksX1_layAll_0 0 rfl rfl)
theorem dX1_layAll_1 : decode cX1_layAll 1 = .ok (.new 7, 3) := dk_187 0 7 (dk_at dksX1_layAll_0 1 rfl rfl)
theorem dX1_layAll_4 : decode cX1_layAll 4 = .ok (.dup, 1) := dk_89 (dk_at dksX1_layAll_0 4 rfl rfl)
theorem dX1_layAll_5 : decode cX1_layAll 5 = .ok (.iload_n 2, 1) := dk_28 (dk_at dksX1_layAll_0 5 rfl rfl)
theorem dX1_layAll_6 : decode cX1_layAll 6 = .ok (.aload_n 0, 1) := dk_42 (dk_at dksX1_layAll_0 6 rfl rfl)
theorem dX1_layAll_7 : decode cX1_layAll 7 = .ok (.invokespecial 9, 3) := dk_183 0 9 (dk_at dksX1_layAll_0 7 rfl rfl)
theorem dX1_layAll_10 : decode cX1_layAll 10 = .ok (.invokevirtual 12, 3) := dk_182 0 12 (dk_at dksX1_layAll_0 10 rfl rfl)
theorem dX1_layAll_13 : decode cX1_layAll 13 = .ok (.aload_n 0, 1) := dk_42 (dk_at dksX1_layAll_0 13 rfl rfl)
theorem dX1_layAll_14 : decode cX1_layAll 14 = .ok (.aload_n 1, 1) := dk_43 (dk_at dksX1_layAll_0 14 rfl rfl)
theorem dX1_layAll_15 : decode cX1_layAll 15 = .ok (.iload_n 2, 1) := dk_28 (dk_at dksX1_layAll_0 15 rfl rfl)
theorem dX1_layAll_16 : decode cX1_layAll 16 = .ok (.invokevirtual 18, 3) := dk_182 0 18 (dk_at dksX1_layAll_0 16 rfl rfl)
theorem dX1_layAll_19 : decode cX1_layAll 19 = .ok (.return_, 1) := dk_177 (dk_at dksX1_layAll_0 19 rfl rfl)
theorem q139 : (Jvm.Cond.initialized "GathersAllFaults$Value") ∈ lw_all := lw_g (lw_at lw_m1 2 rfl) rfl
theorem q199 : (Jvm.Cond.instanceMethod ({ cls := "GathersAllFaults$Value", name := "<init>", desc := "()V" } : Jvm.MethodName)) ∈ lw_all := lw_g (lw_at lw_m1 62 rfl) rfl
theorem q200 : (Jvm.Cond.code ({ cls := "GathersAllFaults$Value", name := "<init>", desc := "()V" } : Jvm.MethodName) prog_23_method_1_code (1 : Nat) (Option.none : Option Jvm.ClassFile.FieldType)) ∈ lw_all := lw_g (lw_at lw_m1 63 rfl) rfl
theorem q201 : (Jvm.Cond.methodLink "GathersAllFaults$Value" (1 : Nat) ({ cls := "java/lang/Object", name := "<init>", desc := "()V" } : Jvm.MethodName)) ∈ lw_all := lw_g (lw_at lw_m1 64 rfl) rfl
theorem q617 : (Jvm.Cond.declares ({ cls := "GathersAllFaults$Value", name := "hashCode", desc := "()I" } : Jvm.MethodName)) ∈ lw_tbl := lw_at lw_m3 0 rfl
theorem q618 : (Jvm.Cond.sameMethod "GathersAllFaults$Value" "GathersAllFaults$Value" "hashCode" "()I") ∈ lw_all := lw_g (lw_at lw_m3 1 rfl) rfl
theorem q680 : (Jvm.Cond.declares ({ cls := "GathersAllFaults$Value", name := "equals", desc := "(Ljava/lang/Object;)Z" } : Jvm.MethodName)) ∈ lw_tbl := lw_at lw_m3 63 rfl
theorem q681 : (Jvm.Cond.sameMethod "GathersAllFaults$Value" "GathersAllFaults$Value" "equals" "(Ljava/lang/Object;)Z") ∈ lw_all := lw_g (lw_at lw_m3 64 rfl) rfl
theorem q1228 : (Jvm.Cond.declares ({ cls := "GathersAllFaults$Value", name := "size", desc := "()I" } : Jvm.MethodName)) ∈ lw_tbl := lw_at lw_m5 131 rfl
theorem q1229 : (Jvm.Cond.sameMethod "GathersAllFaults$Value" "GathersAllFaults$Value" "size" "()I") ∈ lw_all := lw_g (lw_at lw_m5 132 rfl) rfl
theorem q1600 : (Jvm.Cond.instanceMethod ({ cls := "GathersAllFaults$Value", name := "layAll", desc := "(LGathersAllFaults$Row;I)V" } : Jvm.MethodName)) ∈ lw_all := lw_g (lw_at lw_m7 23 rfl) rfl
theorem q1601 : (Jvm.Cond.sameMethod "GathersAllFaults$Value" "GathersAllFaults$Value" "layAll" "(LGathersAllFaults$Row;I)V") ∈ lw_all := lw_g (lw_at lw_m7 24 rfl) rfl
theorem q1606 : (Jvm.Cond.code ({ cls := "GathersAllFaults$Value", name := "layAll", desc := "(LGathersAllFaults$Row;I)V" } : Jvm.MethodName) prog_23_method_11_code (3 : Nat) (Option.none : Option Jvm.ClassFile.FieldType)) ∈ lw_all := lw_g (lw_at lw_m7 29 rfl) rfl
theorem q1607 : (Jvm.Cond.classLink "GathersAllFaults$Value" (7 : Nat) "GathersAllFaults$Part") ∈ lw_all := lw_g (lw_at lw_m7 30 rfl) rfl
theorem q1609 : (Jvm.Cond.methodLink "GathersAllFaults$Value" (9 : Nat) ({ cls := "GathersAllFaults$Part", name := "<init>", desc := "(ILGathersAllFaults$Value;)V" } : Jvm.MethodName)) ∈ lw_all := lw_g (lw_at lw_m7 32 rfl) rfl
theorem q1622 : (Jvm.Cond.methodLink "GathersAllFaults$Value" (12 : Nat) ({ cls := "GathersAllFaults$Row", name := "add", desc := "(LGathersAllFaults$Placed;)V" } : Jvm.MethodName)) ∈ lw_all := lw_g (lw_at lw_m7 45 rfl) rfl
theorem q1623 : (Jvm.Cond.methodLink "GathersAllFaults$Value" (18 : Nat) ({ cls := "GathersAllFaults$Value", name := "lay", desc := "(LGathersAllFaults$Row;I)V" } : Jvm.MethodName)) ∈ lw_all := lw_g (lw_at lw_m7 46 rfl) rfl
theorem q1624 : (Jvm.Cond.declares ({ cls := "GathersAllFaults$Value", name := "lay", desc := "(LGathersAllFaults$Row;I)V" } : Jvm.MethodName)) ∈ lw_tbl := lw_at lw_m7 47 rfl
theorem q1625 : (Jvm.Cond.sameMethod "GathersAllFaults$Value" "GathersAllFaults$Value" "lay" "(LGathersAllFaults$Row;I)V") ∈ lw_all := lw_g (lw_at lw_m7 48 rfl) rfl
theorem q1644 : (Jvm.Cond.declares ({ cls := "GathersAllFaults$Value", name := "kind", desc := "()I" } : Jvm.MethodName)) ∈ lw_tbl := lw_at lw_m7 67 rfl
theorem q1645 : (Jvm.Cond.sameMethod "GathersAllFaults$Value" "GathersAllFaults$Value" "kind" "()I") ∈ lw_all := lw_g (lw_at lw_m7 68 rfl) rfl
theorem q1659 : (Jvm.Cond.declares ({ cls := "GathersAllFaults$Value", name := "many", desc := "()I" } : Jvm.MethodName)) ∈ lw_tbl := lw_at lw_m7 82 rfl
theorem q1660 : (Jvm.Cond.sameMethod "GathersAllFaults$Value" "GathersAllFaults$Value" "many" "()I") ∈ lw_all := lw_g (lw_at lw_m7 83 rfl) rfl
theorem q1682 : (Jvm.Cond.declares ({ cls := "GathersAllFaults$Value", name := "step", desc := "(I)LGathersAllFaults$Value;" } : Jvm.MethodName)) ∈ lw_tbl := lw_at lw_m7 105 rfl
theorem q1683 : (Jvm.Cond.sameMethod "GathersAllFaults$Value" "GathersAllFaults$Value" "step" "(I)LGathersAllFaults$Value;") ∈ lw_all := lw_g (lw_at lw_m7 106 rfl) rfl
theorem q1696 : (Jvm.Cond.declares ({ cls := "GathersAllFaults$Value", name := "with", desc := "(ILGathersAllFaults$Value;)LGathersAllFaults$Value;" } : Jvm.MethodName)) ∈ lw_tbl := lw_at lw_m7 119 rfl
theorem q1697 : (Jvm.Cond.sameMethod "GathersAllFaults$Value" "GathersAllFaults$Value" "with" "(ILGathersAllFaults$Value;)LGathersAllFaults$Value;") ∈ lw_all := lw_g (lw_at lw_m7 120 rfl) rfl
theorem q1762 : (Jvm.Cond.declares ({ cls := "GathersAllFaults$Value", name := "total", desc := "()I" } : Jvm.MethodName)) ∈ lw_tbl := lw_at lw_m7 185 rfl
theorem q1763 : (Jvm.Cond.sameMethod "GathersAllFaults$Value" "GathersAllFaults$Value" "total" "()I") ∈ lw_all := lw_g (lw_at lw_m7 186 rfl) rfl

/-! GathersAllFaults$Num -/
set_option maxRecDepth 100000
def RX2 : String := "GathersAllFaults$Num"
def TX2 : u_T := fun k => match k with
  | _ => ("GathersAllFaults$Num", "n", "I", false)
def tyX2 : Nat → FieldType := fun k => match k with
  | _ => .int
abbrev wsX20 : List Cond := u_ws RX2 TX2 1
theorem nmX2 : ∀ a, a < 1 → ∀ b, b < 1 → a ≠ b → (TX2 a).2.1 ≠ (TX2 b).2.1 := by decide +kernel
theorem tyX2_ok : ∀ k, k < 1 → parseFieldDescriptor (TX2 k).2.2.1 = some (tyX2 k) := by decide +kernel
abbrev cX2_init : ByteArray := prog_12_method_1_code
def yX2_init : MethodName := ⟨RX2, "<init>", "(I)V"⟩
def dkwX2_init_0 : List UInt8 := [42, 183, 0, 1, 42, 27, 181, 0, 7, 177]
abbrev dktX2_init_0 : List UInt8 := dkwX2_init_0 ++ []
theorem dksX2_init_0 : cX2_init.data.toList.drop 0 = dktX2_init_0 := by decide +kernel
theorem dX2_init_0 : decode cX2_init 0 = .ok (.aload_n 0, 1) := dk_42 (dk_at dksX2_init_0 0 rfl rfl)
theorem dX2_init_1 : decode cX2_init 1 = .ok (.invokespecial 1, 3) := dk_183 0 1 (dk_at dksX2_init_0 1 rfl rfl)
theorem dX2_init_4 : decode cX2_init 4 = .ok (.aload_n 0, 1) := dk_42 (dk_at dksX2_init_0 4 rfl rfl)
theorem dX2_init_5 : decode cX2_init 5 = .ok (.iload_n 1, 1) := dk_27 (dk_at dksX2_init_0 5 rfl rfl)
theorem dX2_init_6 : decode cX2_init 6 = .ok (.putfield 7, 3) := dk_181 0 7 (dk_at dksX2_init_0 6 rfl rfl)
theorem dX2_init_9 : decode cX2_init 9 = .ok (.return_, 1) := dk_177 (dk_at dksX2_init_0 9 rfl rfl)
abbrev cX2_hashCode : ByteArray := prog_12_method_10_code
def yX2_hashCode : MethodName := ⟨RX2, "hashCode", "()I"⟩
def dkwX2_hashCode_0 : List UInt8 := [16, 31, 16, 7, 42, 180, 0, 7, 104, 96, 172]
abbrev dktX2_hashCode_0 : List UInt8 := dkwX2_hashCode_0 ++ []
theorem dksX2_hashCode_0 : cX2_hashCode.data.toList.drop 0 = dktX2_hashCode_0 := by decide +kernel
theorem dX2_hashCode_0 : decode cX2_hashCode 0 = .ok (.bipush 31, 2) := dk_16 31 (dk_at dksX2_hashCode_0 0 rfl rfl)
theorem dX2_hashCode_2 : decode cX2_hashCode 2 = .ok (.bipush 7, 2) := dk_16 7 (dk_at dksX2_hashCode_0 2 rfl rfl)
theorem dX2_hashCode_4 : decode cX2_hashCode 4 = .ok (.aload_n 0, 1) := dk_42 (dk_at dksX2_hashCode_0 4 rfl rfl)
theorem dX2_hashCode_5 : decode cX2_hashCode 5 = .ok (.getfield 7, 3) := dk_180 0 7 (dk_at dksX2_hashCode_0 5 rfl rfl)
theorem dX2_hashCode_8 : decode cX2_hashCode 8 = .ok (.imul, 1) := dk_104 (dk_at dksX2_hashCode_0 8 rfl rfl)
theorem dX2_hashCode_9 : decode cX2_hashCode 9 = .ok (.iadd, 1) := dk_96 (dk_at dksX2_hashCode_0 9 rfl rfl)
theorem dX2_hashCode_10 : decode cX2_hashCode 10 = .ok (.ireturn, 1) := dk_172 (dk_at dksX2_hashCode_0 10 rfl rfl)
abbrev cX2_equals : ByteArray := prog_12_method_9_code
def yX2_equals : MethodName := ⟨RX2, "equals", "(Ljava/lang/Object;)Z"⟩
def dkwX2_equals_1 : List UInt8 := [167, 0, 4, 3, 172]
abbrev dktX2_equals_1 : List UInt8 := dkwX2_equals_1 ++ []
def dkwX2_equals_0 : List UInt8 := [43, 193, 0, 8, 153, 0, 23, 43, 192, 0, 8, 77, 44, 180, 0, 7, 42, 180, 0, 7, 160, 0, 7, 4]
abbrev dktX2_equals_0 : List UInt8 := dkwX2_equals_0 ++ dktX2_equals_1
theorem dksX2_equals_0 : cX2_equals.data.toList.drop 0 = dktX2_equals_0 := by decide +kernel
theorem dksX2_equals_1 : cX2_equals.data.toList.drop 24 = dktX2_equals_1 := dk_seg dksX2_equals_0 24 rfl rfl
theorem dX2_equals_0 : decode cX2_equals 0 = .ok (.aload_n 1, 1) := dk_43 (dk_at dksX2_equals_0 0 rfl rfl)
theorem dX2_equals_1 : decode cX2_equals 1 = .ok (.instanceof 8, 3) := dk_193 0 8 (dk_at dksX2_equals_0 1 rfl rfl)
theorem dX2_equals_4 : decode cX2_equals 4 = .ok (.ifCond .eq 23, 3) := dk_153 0 23 (dk_at dksX2_equals_0 4 rfl rfl)
theorem dX2_equals_7 : decode cX2_equals 7 = .ok (.aload_n 1, 1) := dk_43 (dk_at dksX2_equals_0 7 rfl rfl)
theorem dX2_equals_8 : decode cX2_equals 8 = .ok (.checkcast 8, 3) := dk_192 0 8 (dk_at dksX2_equals_0 8 rfl rfl)
theorem dX2_equals_11 : decode cX2_equals 11 = .ok (.astore_n 2, 1) := dk_77 (dk_at dksX2_equals_0 11 rfl rfl)
theorem dX2_equals_12 : decode cX2_equals 12 = .ok (.aload_n 2, 1) := dk_44 (dk_at dksX2_equals_0 12 rfl rfl)
theorem dX2_equals_13 : decode cX2_equals 13 = .ok (.getfield 7, 3) := dk_180 0 7 (dk_at dksX2_equals_0 13 rfl rfl)
theorem dX2_equals_16 : decode cX2_equals 16 = .ok (.aload_n 0, 1) := dk_42 (dk_at dksX2_equals_0 16 rfl rfl)
theorem dX2_equals_17 : decode cX2_equals 17 = .ok (.getfield 7, 3) := dk_180 0 7 (dk_at dksX2_equals_0 17 rfl rfl)
theorem dX2_equals_20 : decode cX2_equals 20 = .ok (.if_icmp .ne 7, 3) := dk_160 0 7 (dk_at dksX2_equals_0 20 rfl rfl)
theorem dX2_equals_23 : decode cX2_equals 23 = .ok (.iconst 1, 1) := dk_4 (dk_at dksX2_equals_0 23 rfl rfl)
theorem dX2_equals_24 : decode cX2_equals 24 = .ok (.goto 4, 3) := dk_167 0 4 (dk_at dksX2_equals_1 0 rfl rfl)
theorem dX2_equals_27 : decode cX2_equals 27 = .ok (.iconst 0, 1) := dk_3 (dk_at dksX2_equals_1 3 rfl rfl)
theorem dX2_equals_28 : decode cX2_equals 28 = .ok (.ireturn, 1) := dk_172 (dk_at dksX2_equals_1 4 rfl rfl)
abbrev cX2_size : ByteArray := prog_12_method_4_code
def yX2_size : MethodName := ⟨RX2, "size", "()I"⟩
theorem dX2_size_0 : decode cX2_size 0 = .ok (.iconst 1, 1) := by decide +kernel
theorem dX2_size_1 : decode cX2_size 1 = .ok (.ireturn, 1) := by decide +kernel
abbrev cX2_lay : ByteArray := prog_12_method_8_code
def yX2_lay : MethodName := ⟨RX2, "lay", "(LGathersAllFaults$Row;I)V"⟩
theorem dX2_lay_0 : decode cX2_lay 0 = .ok (.return_, 1) := by decide +kernel
abbrev cX2_kind : ByteArray := prog_12_method_2_code
def yX2_kind : MethodName := ⟨RX2, "kind", "()I"⟩
theorem dX2_kind_0 : decode cX2_kind 0 = .ok (.iconst 0, 1) := by decide +kernel
theorem dX2_kind_1 : decode cX2_kind 1 = .ok (.ireturn, 1) := by decide +kernel
abbrev cX2_many : ByteArray := prog_12_method_3_code
def yX2_many : MethodName := ⟨RX2, "many", "()I"⟩
theorem dX2_many_0 : decode cX2_many 0 = .ok (.aload_n 0, 1) := by decide +kernel
theorem dX2_many_1 : decode cX2_many 1 = .ok (.getfield 7, 3) := by decide +kernel
theorem dX2_many_4 : decode cX2_many 4 = .ok (.ireturn, 1) := by decide +kernel
abbrev cX2_step : ByteArray := prog_12_method_6_code
def yX2_step : MethodName := ⟨RX2, "step", "(I)LGathersAllFaults$Value;"⟩
theorem dX2_step_0 : decode cX2_step 0 = .ok (.aconst_null, 1) := by decide +kernel
theorem dX2_step_1 : decode cX2_step 1 = .ok (.areturn, 1) := by decide +kernel
abbrev cX2_with : ByteArray := prog_12_method_7_code
def yX2_with : MethodName := ⟨RX2, "with", "(ILGathersAllFaults$Value;)LGathersAllFaults$Value;"⟩
theorem dX2_with_0 : decode cX2_with 0 = .ok (.aload_n 0, 1) := by decide +kernel
theorem dX2_with_1 : decode cX2_with 1 = .ok (.areturn, 1) := by decide +kernel
abbrev cX2_total : ByteArray := prog_12_method_5_code
def yX2_total : MethodName := ⟨RX2, "total", "()I"⟩
theorem dX2_total_0 : decode cX2_total 0 = .ok (.aload_n 0, 1) := by decide +kernel
theorem dX2_total_1 : decode cX2_total 1 = .ok (.getfield 7, 3) := by decide +kernel
theorem dX2_total_4 : decode cX2_total 4 = .ok (.ireturn, 1) := by decide +kernel
theorem q140 : (Jvm.Cond.initialized "GathersAllFaults$Num") ∈ lw_all := lw_g (lw_at lw_m1 3 rfl) rfl
theorem q194 : (Jvm.Cond.instantiable "GathersAllFaults$Num" (1 : Nat)) ∈ lw_all := lw_g (lw_at lw_m1 57 rfl) rfl
theorem q196 : (Jvm.Cond.instanceMethod ({ cls := "GathersAllFaults$Num", name := "<init>", desc := "(I)V" } : Jvm.MethodName)) ∈ lw_all := lw_g (lw_at lw_m1 59 rfl) rfl
theorem q197 : (Jvm.Cond.code ({ cls := "GathersAllFaults$Num", name := "<init>", desc := "(I)V" } : Jvm.MethodName) prog_12_method_1_code (2 : Nat) (Option.none : Option Jvm.ClassFile.FieldType)) ∈ lw_all := lw_g (lw_at lw_m1 60 rfl) rfl
theorem q198 : (Jvm.Cond.methodLinkNest "GathersAllFaults$Num" (1 : Nat) ({ cls := "GathersAllFaults$Value", name := "<init>", desc := "()V" } : Jvm.MethodName) "GathersAllFaults") ∈ lw_tbl := lw_at lw_m1 61 rfl
theorem q202 : (Jvm.Cond.fieldLink "GathersAllFaults$Num" (7 : Nat) "GathersAllFaults$Num" "n" "I") ∈ lw_all := lw_g (lw_at lw_m1 65 rfl) rfl
theorem q204 : (Jvm.Cond.lays "GathersAllFaults$Num" "GathersAllFaults$Num" "n" "I") ∈ lw_all := lw_g (lw_at lw_m1 67 rfl) rfl
theorem q205 : (Jvm.Cond.soleField "GathersAllFaults$Num" "n") ∈ lw_all := lw_g (lw_at lw_m1 68 rfl) rfl
theorem q206 : (Jvm.Cond.superclass "GathersAllFaults$Num" "GathersAllFaults$Value") ∈ lw_all := lw_g (lw_at lw_m1 69 rfl) rfl
theorem q623 : (Jvm.Cond.selects "GathersAllFaults$Num" ({ cls := "GathersAllFaults$Value", name := "hashCode", desc := "()I" } : Jvm.MethodName) ({ cls := "GathersAllFaults$Num", name := "hashCode", desc := "()I" } : Jvm.MethodName)) ∈ lw_all := lw_g (lw_at lw_m3 6 rfl) rfl
theorem q624 : (Jvm.Cond.instanceMethod ({ cls := "GathersAllFaults$Num", name := "hashCode", desc := "()I" } : Jvm.MethodName)) ∈ lw_all := lw_g (lw_at lw_m3 7 rfl) rfl
theorem q625 : (Jvm.Cond.code ({ cls := "GathersAllFaults$Num", name := "hashCode", desc := "()I" } : Jvm.MethodName) prog_12_method_10_code (1 : Nat) (Option.some Jvm.ClassFile.FieldType.int)) ∈ lw_all := lw_g (lw_at lw_m3 8 rfl) rfl
theorem q646 : (Jvm.Cond.selects "GathersAllFaults$Num" ({ cls := "java/lang/Object", name := "hashCode", desc := "()I" } : Jvm.MethodName) ({ cls := "GathersAllFaults$Num", name := "hashCode", desc := "()I" } : Jvm.MethodName)) ∈ lw_all := lw_g (lw_at lw_m3 29 rfl) rfl
theorem q687 : (Jvm.Cond.selects "GathersAllFaults$Num" ({ cls := "GathersAllFaults$Value", name := "equals", desc := "(Ljava/lang/Object;)Z" } : Jvm.MethodName) ({ cls := "GathersAllFaults$Num", name := "equals", desc := "(Ljava/lang/Object;)Z" } : Jvm.MethodName)) ∈ lw_all := lw_g (lw_at lw_m3 70 rfl) rfl
theorem q688 : (Jvm.Cond.instanceMethod ({ cls := "GathersAllFaults$Num", name := "equals", desc := "(Ljava/lang/Object;)Z" } : Jvm.MethodName)) ∈ lw_all := lw_g (lw_at lw_m3 71 rfl) rfl
theorem q689 : (Jvm.Cond.code ({ cls := "GathersAllFaults$Num", name := "equals", desc := "(Ljava/lang/Object;)Z" } : Jvm.MethodName) prog_12_method_9_code (3 : Nat) (Option.some Jvm.ClassFile.FieldType.boolean)) ∈ lw_all := lw_g (lw_at lw_m3 72 rfl) rfl
theorem q690 : (Jvm.Cond.classLink "GathersAllFaults$Num" (8 : Nat) "GathersAllFaults$Num") ∈ lw_all := lw_g (lw_at lw_m3 73 rfl) rfl
theorem q711 : (Jvm.Cond.selects "GathersAllFaults$Num" ({ cls := "java/lang/Object", name := "equals", desc := "(Ljava/lang/Object;)Z" } : Jvm.MethodName) ({ cls := "GathersAllFaults$Num", name := "equals", desc := "(Ljava/lang/Object;)Z" } : Jvm.MethodName)) ∈ lw_all := lw_g (lw_at lw_m3 94 rfl) rfl
theorem q760 : (Jvm.Cond.selects "GathersAllFaults$Num" ({ cls := "java/lang/Object", name := "getClass", desc := "()Ljava/lang/Class;" } : Jvm.MethodName) ({ cls := "java/lang/Object", name := "getClass", desc := "()Ljava/lang/Class;" } : Jvm.MethodName)) ∈ lw_all := lw_g (lw_at lw_m3 143 rfl) rfl
theorem q1236 : (Jvm.Cond.instanceMethod ({ cls := "GathersAllFaults$Num", name := "size", desc := "()I" } : Jvm.MethodName)) ∈ lw_all := lw_g (lw_at lw_m5 139 rfl) rfl
theorem q1237 : (Jvm.Cond.code ({ cls := "GathersAllFaults$Num", name := "size", desc := "()I" } : Jvm.MethodName) prog_12_method_4_code (1 : Nat) (Option.some Jvm.ClassFile.FieldType.int)) ∈ lw_all := lw_g (lw_at lw_m5 140 rfl) rfl
theorem q1242 : (Jvm.Cond.selects "GathersAllFaults$Num" ({ cls := "GathersAllFaults$Value", name := "size", desc := "()I" } : Jvm.MethodName) ({ cls := "GathersAllFaults$Num", name := "size", desc := "()I" } : Jvm.MethodName)) ∈ lw_all := lw_g (lw_at lw_m5 145 rfl) rfl
theorem q1604 : (Jvm.Cond.selects "GathersAllFaults$Num" ({ cls := "GathersAllFaults$Value", name := "layAll", desc := "(LGathersAllFaults$Row;I)V" } : Jvm.MethodName) ({ cls := "GathersAllFaults$Value", name := "layAll", desc := "(LGathersAllFaults$Row;I)V" } : Jvm.MethodName)) ∈ lw_all := lw_g (lw_at lw_m7 27 rfl) rfl
theorem q1633 : (Jvm.Cond.selects "GathersAllFaults$Num" ({ cls := "GathersAllFaults$Value", name := "lay", desc := "(LGathersAllFaults$Row;I)V" } : Jvm.MethodName) ({ cls := "GathersAllFaults$Num", name := "lay", desc := "(LGathersAllFaults$Row;I)V" } : Jvm.MethodName)) ∈ lw_all := lw_g (lw_at lw_m7 56 rfl) rfl
theorem q1634 : (Jvm.Cond.instanceMethod ({ cls := "GathersAllFaults$Num", name := "lay", desc := "(LGathersAllFaults$Row;I)V" } : Jvm.MethodName)) ∈ lw_all := lw_g (lw_at lw_m7 57 rfl) rfl
theorem q1635 : (Jvm.Cond.code ({ cls := "GathersAllFaults$Num", name := "lay", desc := "(LGathersAllFaults$Row;I)V" } : Jvm.MethodName) prog_12_method_8_code (3 : Nat) (Option.none : Option Jvm.ClassFile.FieldType)) ∈ lw_all := lw_g (lw_at lw_m7 58 rfl) rfl
theorem q1652 : (Jvm.Cond.selects "GathersAllFaults$Num" ({ cls := "GathersAllFaults$Value", name := "kind", desc := "()I" } : Jvm.MethodName) ({ cls := "GathersAllFaults$Num", name := "kind", desc := "()I" } : Jvm.MethodName)) ∈ lw_all := lw_g (lw_at lw_m7 75 rfl) rfl
theorem q1653 : (Jvm.Cond.instanceMethod ({ cls := "GathersAllFaults$Num", name := "kind", desc := "()I" } : Jvm.MethodName)) ∈ lw_all := lw_g (lw_at lw_m7 76 rfl) rfl
theorem q1654 : (Jvm.Cond.code ({ cls := "GathersAllFaults$Num", name := "kind", desc := "()I" } : Jvm.MethodName) prog_12_method_2_code (1 : Nat) (Option.some Jvm.ClassFile.FieldType.int)) ∈ lw_all := lw_g (lw_at lw_m7 77 rfl) rfl
theorem q1665 : (Jvm.Cond.selects "GathersAllFaults$Num" ({ cls := "GathersAllFaults$Value", name := "many", desc := "()I" } : Jvm.MethodName) ({ cls := "GathersAllFaults$Num", name := "many", desc := "()I" } : Jvm.MethodName)) ∈ lw_all := lw_g (lw_at lw_m7 88 rfl) rfl
theorem q1666 : (Jvm.Cond.instanceMethod ({ cls := "GathersAllFaults$Num", name := "many", desc := "()I" } : Jvm.MethodName)) ∈ lw_all := lw_g (lw_at lw_m7 89 rfl) rfl
theorem q1667 : (Jvm.Cond.code ({ cls := "GathersAllFaults$Num", name := "many", desc := "()I" } : Jvm.MethodName) prog_12_method_3_code (1 : Nat) (Option.some Jvm.ClassFile.FieldType.int)) ∈ lw_all := lw_g (lw_at lw_m7 90 rfl) rfl
theorem q1691 : (Jvm.Cond.selects "GathersAllFaults$Num" ({ cls := "GathersAllFaults$Value", name := "step", desc := "(I)LGathersAllFaults$Value;" } : Jvm.MethodName) ({ cls := "GathersAllFaults$Num", name := "step", desc := "(I)LGathersAllFaults$Value;" } : Jvm.MethodName)) ∈ lw_all := lw_g (lw_at lw_m7 114 rfl) rfl
theorem q1692 : (Jvm.Cond.instanceMethod ({ cls := "GathersAllFaults$Num", name := "step", desc := "(I)LGathersAllFaults$Value;" } : Jvm.MethodName)) ∈ lw_all := lw_g (lw_at lw_m7 115 rfl) rfl
theorem q1693 : (Jvm.Cond.code ({ cls := "GathersAllFaults$Num", name := "step", desc := "(I)LGathersAllFaults$Value;" } : Jvm.MethodName) prog_12_method_6_code (2 : Nat) (Option.some (Jvm.ClassFile.FieldType.object "GathersAllFaults$Value"))) ∈ lw_all := lw_g (lw_at lw_m7 116 rfl) rfl
theorem q1706 : (Jvm.Cond.selects "GathersAllFaults$Num" ({ cls := "GathersAllFaults$Value", name := "with", desc := "(ILGathersAllFaults$Value;)LGathersAllFaults$Value;" } : Jvm.MethodName) ({ cls := "GathersAllFaults$Num", name := "with", desc := "(ILGathersAllFaults$Value;)LGathersAllFaults$Value;" } : Jvm.MethodName)) ∈ lw_all := lw_g (lw_at lw_m7 129 rfl) rfl
theorem q1707 : (Jvm.Cond.instanceMethod ({ cls := "GathersAllFaults$Num", name := "with", desc := "(ILGathersAllFaults$Value;)LGathersAllFaults$Value;" } : Jvm.MethodName)) ∈ lw_all := lw_g (lw_at lw_m7 130 rfl) rfl
theorem q1708 : (Jvm.Cond.code ({ cls := "GathersAllFaults$Num", name := "with", desc := "(ILGathersAllFaults$Value;)LGathersAllFaults$Value;" } : Jvm.MethodName) prog_12_method_7_code (3 : Nat) (Option.some (Jvm.ClassFile.FieldType.object "GathersAllFaults$Value"))) ∈ lw_all := lw_g (lw_at lw_m7 131 rfl) rfl
theorem q1770 : (Jvm.Cond.instanceMethod ({ cls := "GathersAllFaults$Num", name := "total", desc := "()I" } : Jvm.MethodName)) ∈ lw_all := lw_g (lw_at lw_m7 193 rfl) rfl
theorem q1771 : (Jvm.Cond.code ({ cls := "GathersAllFaults$Num", name := "total", desc := "()I" } : Jvm.MethodName) prog_12_method_5_code (1 : Nat) (Option.some Jvm.ClassFile.FieldType.int)) ∈ lw_all := lw_g (lw_at lw_m7 194 rfl) rfl
theorem q1776 : (Jvm.Cond.selects "GathersAllFaults$Num" ({ cls := "GathersAllFaults$Value", name := "total", desc := "()I" } : Jvm.MethodName) ({ cls := "GathersAllFaults$Num", name := "total", desc := "()I" } : Jvm.MethodName)) ∈ lw_all := lw_g (lw_at lw_m7 199 rfl) rfl
theorem q2736 : (Jvm.Cond.castable "GathersAllFaults$Num" "GathersAllFaults$Value") ∈ lw_tbl := lw_at lw_m11 199 rfl
theorem q2740 : (Jvm.Cond.castable "GathersAllFaults$Num" "java/lang/Object") ∈ lw_tbl := lw_at lw_m11 203 rfl
theorem in_X2 : ∀ w ∈ wsX20, w ∈ lw_all := lw_in wsX20 [204] (by decide +kernel) (by decide +kernel)

/-! GathersAllFaults$Compiled -/
set_option maxRecDepth 100000
def RX3 : String := "GathersAllFaults$Compiled"
def TX3 : u_T := fun k => match k with
  | 0 => ("GathersAllFaults$Compiled", "look", "LGathersAllFaults$Look;", false)
  | 1 => ("GathersAllFaults$Compiled", "checks", "I", false)
  | _ => ("GathersAllFaults$Compiled", "sink", "LGathersAllFaults$Sink;", true)
def tyX3 : Nat → FieldType := fun k => match k with
  | 0 => .object "GathersAllFaults$Look"
  | 1 => .int
  | _ => .object "GathersAllFaults$Sink"
abbrev wsX30 : List Cond := u_ws RX3 TX3 3
theorem nmX3 : ∀ a, a < 3 → ∀ b, b < 3 → a ≠ b → (TX3 a).2.1 ≠ (TX3 b).2.1 := by decide +kernel
theorem tyX3_ok : ∀ k, k < 3 → parseFieldDescriptor (TX3 k).2.2.1 = some (tyX3 k) := by decide +kernel
abbrev cX3_init : ByteArray := prog_3_method_1_code
def yX3_init : MethodName := ⟨RX3, "<init>", "()V"⟩
def dkwX3_init_1 : List UInt8 := [183, 0, 23, 181, 0, 24, 177]
abbrev dktX3_init_1 : List UInt8 := dkwX3_init_1 ++ []
def dkwX3_init_0 : List UInt8 := [42, 183, 0, 1, 42, 186, 0, 7, 0, 0, 181, 0, 11, 42, 4, 181, 0, 17, 42, 187, 0, 21, 89]
abbrev dktX3_init_0 : List UInt8 := dkwX3_init_0 ++ dktX3_init_1
theorem dksX3_init_0 : cX3_init.data.toList.drop 0 = dktX3_init_0 := by decide +kernel
theorem dksX3_init_1 : cX3_init.data.toList.drop 23 = dktX3_init_1 := dk_seg dksX3_init_0 23 rfl rfl
theorem dX3_init_0 : decode cX3_init 0 = .ok (.aload_n 0, 1) := dk_42 (dk_at dksX3_init_0 0 rfl rfl)
theorem dX3_init_1 : decode cX3_init 1 = .ok (.invokespecial 1, 3) := dk_183 0 1 (dk_at dksX3_init_0 1 rfl rfl)
theorem dX3_init_4 : decode cX3_init 4 = .ok (.aload_n 0, 1) := dk_42 (dk_at dksX3_init_0 4 rfl rfl)
theorem dX3_init_5 : decode cX3_init 5 = .ok (.invokedynamic 7, 5) := by decide +kernel
theorem dX3_init_10 : decode cX3_init 10 = .ok (.putfield 11, 3) := dk_181 0 11 (dk_at dksX3_init_0 10 rfl rfl)
theorem dX3_init_13 : decode cX3_init 13 = .ok (.aload_n 0, 1) := dk_42 (dk_at dksX3_init_0 13 rfl rfl)
theorem dX3_init_14 : decode cX3_init 14 = .ok (.iconst 1, 1) := dk_4 (dk_at dksX3_init_0 14 rfl rfl)
theorem dX3_init_15 : decode cX3_init 15 = .ok (.putfield 17, 3) := dk_181 0 17 (dk_at dksX3_init_0 15 rfl rfl)
theorem dX3_init_18 : decode cX3_init 18 = .ok (.aload_n 0, 1) := dk_42 (dk_at dksX3_init_0 18 rfl rfl)
theorem dX3_init_19 : decode cX3_init 19 = .ok (.new 21, 3) := dk_187 0 21 (dk_at dksX3_init_0 19 rfl rfl)
theorem dX3_init_22 : decode cX3_init 22 = .ok (.dup, 1) := dk_89 (dk_at dksX3_init_0 22 rfl rfl)
theorem dX3_init_23 : decode cX3_init 23 = .ok (.invokespecial 23, 3) := dk_183 0 23 (dk_at dksX3_init_1 0 rfl rfl)
theorem dX3_init_26 : decode cX3_init 26 = .ok (.putfield 24, 3) := dk_181 0 24 (dk_at dksX3_init_1 3 rfl rfl)
theorem dX3_init_29 : decode cX3_init 29 = .ok (.return_, 1) := dk_177 (dk_at dksX3_init_1 6 rfl rfl)
abbrev cX3_lambda_new_0 : ByteArray := prog_3_method_5_code
def yX3_lambda_new_0 : MethodName := ⟨RX3, "lambda$new$0", "(LGathersAllFaults$Value;ILGathersAllFaults$Finding;)V"⟩
theorem dX3_lambda_new_0_0 : decode cX3_lambda_new_0 0 = .ok (.return_, 1) := by decide +kernel
abbrev cX3_again : ByteArray := prog_3_method_2_code
def yX3_again : MethodName := ⟨RX3, "again", "()LGathersAllFaults$Look;"⟩
theorem dX3_again_0 : decode cX3_again 0 = .ok (.aload_n 0, 1) := by decide +kernel
theorem dX3_again_1 : decode cX3_again 1 = .ok (.invokedynamic 28, 5) := by decide +kernel
theorem dX3_again_6 : decode cX3_again 6 = .ok (.areturn, 1) := by decide +kernel
abbrev cX3_lambda_again_1 : ByteArray := prog_3_method_4_code
def yX3_lambda_again_1 : MethodName := ⟨RX3, "lambda$again$1", "(LGathersAllFaults$Value;ILGathersAllFaults$Finding;)V"⟩
def dkwX3_lambda_again_1_0 : List UInt8 := [42, 180, 0, 11, 43, 28, 45, 185, 0, 41, 4, 0, 177]
abbrev dktX3_lambda_again_1_0 : List UInt8 := dkwX3_lambda_again_1_0 ++ []
theorem dksX3_lambda_again_1_0 : cX3_lambda_again_1.data.toList.drop 0 = dktX3_lambda_again_1_0 := by decide +kernel
theorem dX3_lambda_again_1_0 : decode cX3_lambda_again_1 0 = .ok (.aload_n 0, 1) := dk_42 (dk_at dksX3_lambda_again_1_0 0 rfl rfl)
theorem dX3_lambda_again_1_1 : decode cX3_lambda_again_1 1 = .ok (.getfield 11, 3) := dk_180 0 11 (dk_at dksX3_lambda_again_1_0 1 rfl rfl)
theorem dX3_lambda_again_1_4 : decode cX3_lambda_again_1 4 = .ok (.aload_n 1, 1) := dk_43 (dk_at dksX3_lambda_again_1_0 4 rfl rfl)
theorem dX3_lambda_again_1_5 : decode cX3_lambda_again_1 5 = .ok (.iload_n 2, 1) := dk_28 (dk_at dksX3_lambda_again_1_0 5 rfl rfl)
theorem dX3_lambda_again_1_6 : decode cX3_lambda_again_1 6 = .ok (.aload_n 3, 1) := dk_45 (dk_at dksX3_lambda_again_1_0 6 rfl rfl)
theorem dX3_lambda_again_1_7 : decode cX3_lambda_again_1 7 = .ok (.invokeinterface 41 4, 5) := by decide +kernel
theorem dX3_lambda_again_1_12 : decode cX3_lambda_again_1 12 = .ok (.return_, 1) := dk_177 (dk_at dksX3_lambda_again_1_0 12 rfl rfl)
abbrev cX3_of : ByteArray := prog_3_method_3_code
def yX3_of : MethodName := ⟨RX3, "of", "(LGathersAllFaults$Value;)LGathersAllFaults$Finding;"⟩
def dkwX3_of_0 : List UInt8 := [42, 180, 0, 11, 43, 3, 42, 180, 0, 24, 182, 0, 31, 184, 0, 35, 176]
abbrev dktX3_of_0 : List UInt8 := dkwX3_of_0 ++ []
theorem dksX3_of_0 : cX3_of.data.toList.drop 0 = dktX3_of_0 := by decide +kernel
theorem dX3_of_0 : decode cX3_of 0 = .ok (.aload_n 0, 1) := dk_42 (dk_at dksX3_of_0 0 rfl rfl)
theorem dX3_of_1 : decode cX3_of 1 = .ok (.getfield 11, 3) := dk_180 0 11 (dk_at dksX3_of_0 1 rfl rfl)
theorem dX3_of_4 : decode cX3_of 4 = .ok (.aload_n 1, 1) := dk_43 (dk_at dksX3_of_0 4 rfl rfl)
theorem dX3_of_5 : decode cX3_of 5 = .ok (.iconst 0, 1) := dk_3 (dk_at dksX3_of_0 5 rfl rfl)
theorem dX3_of_6 : decode cX3_of 6 = .ok (.aload_n 0, 1) := dk_42 (dk_at dksX3_of_0 6 rfl rfl)
theorem dX3_of_7 : decode cX3_of 7 = .ok (.getfield 24, 3) := dk_180 0 24 (dk_at dksX3_of_0 7 rfl rfl)
theorem dX3_of_10 : decode cX3_of 10 = .ok (.invokevirtual 31, 3) := dk_182 0 31 (dk_at dksX3_of_0 10 rfl rfl)
theorem dX3_of_13 : decode cX3_of 13 = .ok (.invokestatic 35, 3) := dk_184 0 35 (dk_at dksX3_of_0 13 rfl rfl)
theorem dX3_of_16 : decode cX3_of 16 = .ok (.areturn, 1) := dk_176 (dk_at dksX3_of_0 16 rfl rfl)
theorem q141 : (Jvm.Cond.initialized "GathersAllFaults$Compiled") ∈ lw_all := lw_g (lw_at lw_m1 4 rfl) rfl
theorem q208 : (Jvm.Cond.instantiable "GathersAllFaults$Compiled" (3 : Nat)) ∈ lw_all := lw_g (lw_at lw_m1 71 rfl) rfl
theorem q210 : (Jvm.Cond.instanceMethod ({ cls := "GathersAllFaults$Compiled", name := "<init>", desc := "()V" } : Jvm.MethodName)) ∈ lw_all := lw_g (lw_at lw_m1 73 rfl) rfl
theorem q211 : (Jvm.Cond.code ({ cls := "GathersAllFaults$Compiled", name := "<init>", desc := "()V" } : Jvm.MethodName) prog_3_method_1_code (1 : Nat) (Option.none : Option Jvm.ClassFile.FieldType)) ∈ lw_all := lw_g (lw_at lw_m1 74 rfl) rfl
theorem q212 : (Jvm.Cond.methodLink "GathersAllFaults$Compiled" (1 : Nat) ({ cls := "java/lang/Object", name := "<init>", desc := "()V" } : Jvm.MethodName)) ∈ lw_all := lw_g (lw_at lw_m1 75 rfl) rfl
theorem q213 : (Jvm.Cond.static ({ cls := "GathersAllFaults$Compiled", name := "lambda$new$0", desc := "(LGathersAllFaults$Value;ILGathersAllFaults$Finding;)V" } : Jvm.MethodName)) ∈ lw_all := lw_g (lw_at lw_m1 76 rfl) rfl
theorem q214 : (Jvm.Cond.code ({ cls := "GathersAllFaults$Compiled", name := "lambda$new$0", desc := "(LGathersAllFaults$Value;ILGathersAllFaults$Finding;)V" } : Jvm.MethodName) prog_3_method_5_code (3 : Nat) (Option.none : Option Jvm.ClassFile.FieldType)) ∈ lw_all := lw_g (lw_at lw_m1 77 rfl) rfl
theorem q215 : (Jvm.Cond.classLink "GathersAllFaults$Compiled" (21 : Nat) "GathersAllFaults$Sink") ∈ lw_all := lw_g (lw_at lw_m1 78 rfl) rfl
theorem q217 : (Jvm.Cond.methodLinkNest "GathersAllFaults$Compiled" (23 : Nat) ({ cls := "GathersAllFaults$Sink", name := "<init>", desc := "()V" } : Jvm.MethodName) "GathersAllFaults") ∈ lw_tbl := lw_at lw_m1 80 rfl
theorem q240 : (Jvm.Cond.fieldLink "GathersAllFaults$Compiled" (11 : Nat) "GathersAllFaults$Compiled" "look" "LGathersAllFaults$Look;") ∈ lw_all := lw_g (lw_at lw_m1 103 rfl) rfl
theorem q242 : (Jvm.Cond.fieldLink "GathersAllFaults$Compiled" (17 : Nat) "GathersAllFaults$Compiled" "checks" "I") ∈ lw_all := lw_g (lw_at lw_m1 105 rfl) rfl
theorem q244 : (Jvm.Cond.fieldLink "GathersAllFaults$Compiled" (24 : Nat) "GathersAllFaults$Compiled" "sink" "LGathersAllFaults$Sink;") ∈ lw_all := lw_g (lw_at lw_m1 107 rfl) rfl
theorem q245 : (Jvm.Cond.lays "GathersAllFaults$Compiled" "GathersAllFaults$Compiled" "look" "LGathersAllFaults$Look;") ∈ lw_all := lw_g (lw_at lw_m1 108 rfl) rfl
theorem q246 : (Jvm.Cond.soleField "GathersAllFaults$Compiled" "look") ∈ lw_all := lw_g (lw_at lw_m1 109 rfl) rfl
theorem q247 : (Jvm.Cond.lays "GathersAllFaults$Compiled" "GathersAllFaults$Compiled" "checks" "I") ∈ lw_all := lw_g (lw_at lw_m1 110 rfl) rfl
theorem q248 : (Jvm.Cond.soleField "GathersAllFaults$Compiled" "checks") ∈ lw_all := lw_g (lw_at lw_m1 111 rfl) rfl
theorem q249 : (Jvm.Cond.laysFinal "GathersAllFaults$Compiled" "GathersAllFaults$Compiled" "sink" "LGathersAllFaults$Sink;") ∈ lw_all := lw_g (lw_at lw_m1 112 rfl) rfl
theorem q250 : (Jvm.Cond.soleField "GathersAllFaults$Compiled" "sink") ∈ lw_all := lw_g (lw_at lw_m1 113 rfl) rfl
theorem q251 : (Jvm.Cond.superclass "GathersAllFaults$Compiled" "java/lang/Object") ∈ lw_all := lw_g (lw_at lw_m1 114 rfl) rfl
theorem q607 : (Jvm.Cond.selects "GathersAllFaults$Compiled" ({ cls := "java/lang/Object", name := "hashCode", desc := "()I" } : Jvm.MethodName) ({ cls := "java/lang/Object", name := "hashCode", desc := "()I" } : Jvm.MethodName)) ∈ lw_all := lw_g (lw_at lw_m2 230 rfl) rfl
theorem q669 : (Jvm.Cond.selects "GathersAllFaults$Compiled" ({ cls := "java/lang/Object", name := "equals", desc := "(Ljava/lang/Object;)Z" } : Jvm.MethodName) ({ cls := "java/lang/Object", name := "equals", desc := "(Ljava/lang/Object;)Z" } : Jvm.MethodName)) ∈ lw_all := lw_g (lw_at lw_m3 52 rfl) rfl
theorem q752 : (Jvm.Cond.selects "GathersAllFaults$Compiled" ({ cls := "java/lang/Object", name := "getClass", desc := "()Ljava/lang/Class;" } : Jvm.MethodName) ({ cls := "java/lang/Object", name := "getClass", desc := "()Ljava/lang/Class;" } : Jvm.MethodName)) ∈ lw_all := lw_g (lw_at lw_m3 135 rfl) rfl
theorem q1575 : (Jvm.Cond.instanceMethod ({ cls := "GathersAllFaults$Compiled", name := "again", desc := "()LGathersAllFaults$Look;" } : Jvm.MethodName)) ∈ lw_all := lw_g (lw_at lw_m6 238 rfl) rfl
theorem q1576 : (Jvm.Cond.selects "GathersAllFaults$Compiled" ({ cls := "GathersAllFaults$Compiled", name := "again", desc := "()LGathersAllFaults$Look;" } : Jvm.MethodName) ({ cls := "GathersAllFaults$Compiled", name := "again", desc := "()LGathersAllFaults$Look;" } : Jvm.MethodName)) ∈ lw_all := lw_g (lw_at lw_m6 239 rfl) rfl
theorem q1577 : (Jvm.Cond.code ({ cls := "GathersAllFaults$Compiled", name := "again", desc := "()LGathersAllFaults$Look;" } : Jvm.MethodName) prog_3_method_2_code (1 : Nat) (Option.some (Jvm.ClassFile.FieldType.object "GathersAllFaults$Look"))) ∈ lw_all := lw_g (lw_at lw_m7 0 rfl) rfl
theorem q1578 : (Jvm.Cond.privateMethod ({ cls := "GathersAllFaults$Compiled", name := "lambda$again$1", desc := "(LGathersAllFaults$Value;ILGathersAllFaults$Finding;)V" } : Jvm.MethodName)) ∈ lw_tbl := lw_at lw_m7 1 rfl
theorem q1579 : (Jvm.Cond.instanceMethod ({ cls := "GathersAllFaults$Compiled", name := "lambda$again$1", desc := "(LGathersAllFaults$Value;ILGathersAllFaults$Finding;)V" } : Jvm.MethodName)) ∈ lw_all := lw_g (lw_at lw_m7 2 rfl) rfl
theorem q1580 : (Jvm.Cond.code ({ cls := "GathersAllFaults$Compiled", name := "lambda$again$1", desc := "(LGathersAllFaults$Value;ILGathersAllFaults$Finding;)V" } : Jvm.MethodName) prog_3_method_4_code (4 : Nat) (Option.none : Option Jvm.ClassFile.FieldType)) ∈ lw_all := lw_g (lw_at lw_m7 3 rfl) rfl
theorem q1581 : (Jvm.Cond.interfaceEntry "GathersAllFaults$Compiled" (41 : Nat)) ∈ lw_tbl := lw_at lw_m7 4 rfl
theorem q1582 : (Jvm.Cond.methodLink "GathersAllFaults$Compiled" (41 : Nat) ({ cls := "GathersAllFaults$Look", name := "at", desc := "(LGathersAllFaults$Value;ILGathersAllFaults$Finding;)V" } : Jvm.MethodName)) ∈ lw_all := lw_g (lw_at lw_m7 5 rfl) rfl
theorem q1721 : (Jvm.Cond.instanceMethod ({ cls := "GathersAllFaults$Compiled", name := "of", desc := "(LGathersAllFaults$Value;)LGathersAllFaults$Finding;" } : Jvm.MethodName)) ∈ lw_all := lw_g (lw_at lw_m7 144 rfl) rfl
theorem q1722 : (Jvm.Cond.selects "GathersAllFaults$Compiled" ({ cls := "GathersAllFaults$Compiled", name := "of", desc := "(LGathersAllFaults$Value;)LGathersAllFaults$Finding;" } : Jvm.MethodName) ({ cls := "GathersAllFaults$Compiled", name := "of", desc := "(LGathersAllFaults$Value;)LGathersAllFaults$Finding;" } : Jvm.MethodName)) ∈ lw_all := lw_g (lw_at lw_m7 145 rfl) rfl
theorem q1723 : (Jvm.Cond.code ({ cls := "GathersAllFaults$Compiled", name := "of", desc := "(LGathersAllFaults$Value;)LGathersAllFaults$Finding;" } : Jvm.MethodName) prog_3_method_3_code (2 : Nat) (Option.some (Jvm.ClassFile.FieldType.object "GathersAllFaults$Finding"))) ∈ lw_all := lw_g (lw_at lw_m7 146 rfl) rfl
theorem q1724 : (Jvm.Cond.methodLink "GathersAllFaults$Compiled" (31 : Nat) ({ cls := "GathersAllFaults$Sink", name := "emptied", desc := "()LGathersAllFaults$Sink;" } : Jvm.MethodName)) ∈ lw_all := lw_g (lw_at lw_m7 147 rfl) rfl
theorem q1728 : (Jvm.Cond.methodLinkNest "GathersAllFaults$Compiled" (35 : Nat) ({ cls := "GathersAllFaults", name := "by", desc := "(LGathersAllFaults$Look;LGathersAllFaults$Value;ILGathersAllFaults$Sink;)LGathersAllFaults$Finding;" } : Jvm.MethodName) "GathersAllFaults") ∈ lw_tbl := lw_at lw_m7 151 rfl
theorem q2741 : (Jvm.Cond.castable "GathersAllFaults$Compiled" "java/lang/Object") ∈ lw_tbl := lw_at lw_m11 204 rfl
theorem in_X3 : ∀ w ∈ wsX30, w ∈ lw_all := lw_in wsX30 [245, 247, 249] (by decide +kernel) (by decide +kernel)

/-! GathersAllFaults$Sink -/
set_option maxRecDepth 100000
def RX4 : String := "GathersAllFaults$Sink"
def TX4 : u_T := fun k => match k with
  | 0 => ("GathersAllFaults$Sink", "findings", "[LGathersAllFaults$Finding;", false)
  | 1 => ("GathersAllFaults$Sink", "findingMany", "I", false)
  | 2 => ("GathersAllFaults$Sink", "founds", "[LGathersAllFaults$Found;", false)
  | _ => ("GathersAllFaults$Sink", "foundMany", "I", false)
def tyX4 : Nat → FieldType := fun k => match k with
  | 0 => .array (.object "GathersAllFaults$Finding")
  | 1 => .int
  | 2 => .array (.object "GathersAllFaults$Found")
  | _ => .int
abbrev wsX40 : List Cond := u_ws RX4 TX4 4
theorem nmX4 : ∀ a, a < 4 → ∀ b, b < 4 → a ≠ b → (TX4 a).2.1 ≠ (TX4 b).2.1 := by decide +kernel
theorem tyX4_ok : ∀ k, k < 4 → parseFieldDescriptor (TX4 k).2.2.1 = some (tyX4 k) := by decide +kernel
abbrev cX4_init : ByteArray := prog_20_method_1_code
def yX4_init : MethodName := ⟨RX4, "<init>", "()V"⟩
def dkwX4_init_0 : List UInt8 := [42, 183, 0, 1, 42, 16, 8, 189, 0, 7, 181, 0, 9, 42, 16, 32, 189, 0, 15, 181, 0, 17, 177]
abbrev dktX4_init_0 : List UInt8 := dkwX4_init_0 ++ []
theorem dksX4_init_0 : cX4_init.data.toList.drop 0 = dktX4_init_0 := by decide +kernel
theorem dX4_init_0 : decode cX4_init 0 = .ok (.aload_n 0, 1) := dk_42 (dk_at dksX4_init_0 0 rfl rfl)
theorem dX4_init_1 : decode cX4_init 1 = .ok (.invokespecial 1, 3) := dk_183 0 1 (dk_at dksX4_init_0 1 rfl rfl)
theorem dX4_init_4 : decode cX4_init 4 = .ok (.aload_n 0, 1) := dk_42 (dk_at dksX4_init_0 4 rfl rfl)
theorem dX4_init_5 : decode cX4_init 5 = .ok (.bipush 8, 2) := dk_16 8 (dk_at dksX4_init_0 5 rfl rfl)
theorem dX4_init_7 : decode cX4_init 7 = .ok (.anewarray 7, 3) := dk_189 0 7 (dk_at dksX4_init_0 7 rfl rfl)
theorem dX4_init_10 : decode cX4_init 10 = .ok (.putfield 9, 3) := dk_181 0 9 (dk_at dksX4_init_0 10 rfl rfl)
theorem dX4_init_13 : decode cX4_init 13 = .ok (.aload_n 0, 1) := dk_42 (dk_at dksX4_init_0 13 rfl rfl)
theorem dX4_init_14 : decode cX4_init 14 = .ok (.bipush 32, 2) := dk_16 32 (dk_at dksX4_init_0 14 rfl rfl)
theorem dX4_init_16 : decode cX4_init 16 = .ok (.anewarray 15, 3) := dk_189 0 15 (dk_at dksX4_init_0 16 rfl rfl)
theorem dX4_init_19 : decode cX4_init 19 = .ok (.putfield 17, 3) := dk_181 0 17 (dk_at dksX4_init_0 19 rfl rfl)
theorem dX4_init_22 : decode cX4_init 22 = .ok (.return_, 1) := dk_177 (dk_at dksX4_init_0 22 rfl rfl)
abbrev cX4_found : ByteArray := prog_20_method_4_code
def yX4_found : MethodName := ⟨RX4, "found", "(II)LGathersAllFaults$Found;"⟩
def dkwX4_found_4 : List UInt8 := [182, 0, 42, 176]
abbrev dktX4_found_4 : List UInt8 := dkwX4_found_4 ++ []
def dkwX4_found_3 : List UInt8 := [89, 180, 0, 25, 4, 96, 181, 0, 25, 42, 180, 0, 17, 42, 180, 0, 25, 4, 100, 50, 27, 28]
abbrev dktX4_found_3 : List UInt8 := dkwX4_found_3 ++ dktX4_found_4
def dkwX4_found_2 : List UInt8 := [180, 0, 25, 50, 199, 0, 19, 42, 180, 0, 17, 42, 180, 0, 25, 187, 0, 15, 89, 183, 0, 41, 83, 42]
abbrev dktX4_found_2 : List UInt8 := dkwX4_found_2 ++ dktX4_found_3
def dkwX4_found_1 : List UInt8 := [180, 0, 17, 3, 45, 3, 42, 180, 0, 25, 184, 0, 28, 42, 45, 181, 0, 17, 42, 180, 0, 17, 42]
abbrev dktX4_found_1 : List UInt8 := dkwX4_found_1 ++ dktX4_found_2
def dkwX4_found_0 : List UInt8 := [42, 180, 0, 25, 42, 180, 0, 17, 190, 160, 0, 32, 5, 42, 180, 0, 25, 104, 189, 0, 15, 78, 42]
abbrev dktX4_found_0 : List UInt8 := dkwX4_found_0 ++ dktX4_found_1
theorem dksX4_found_0 : cX4_found.data.toList.drop 0 = dktX4_found_0 := by decide +kernel
theorem dksX4_found_1 : cX4_found.data.toList.drop 23 = dktX4_found_1 := dk_seg dksX4_found_0 23 rfl rfl
theorem dksX4_found_2 : cX4_found.data.toList.drop 46 = dktX4_found_2 := dk_seg dksX4_found_1 23 rfl rfl
theorem dksX4_found_3 : cX4_found.data.toList.drop 70 = dktX4_found_3 := dk_seg dksX4_found_2 24 rfl rfl
theorem dksX4_found_4 : cX4_found.data.toList.drop 92 = dktX4_found_4 := dk_seg dksX4_found_3 22 rfl rfl
theorem dX4_found_0 : decode cX4_found 0 = .ok (.aload_n 0, 1) := dk_42 (dk_at dksX4_found_0 0 rfl rfl)
theorem dX4_found_1 : decode cX4_found 1 = .ok (.getfield 25, 3) := dk_180 0 25 (dk_at dksX4_found_0 1 rfl rfl)
theorem dX4_found_4 : decode cX4_found 4 = .ok (.aload_n 0, 1) := dk_42 (dk_at dksX4_found_0 4 rfl rfl)
theorem dX4_found_5 : decode cX4_found 5 = .ok (.getfield 17, 3) := dk_180 0 17 (dk_at dksX4_found_0 5 rfl rfl)
theorem dX4_found_8 : decode cX4_found 8 = .ok (.arraylength, 1) := dk_190 (dk_at dksX4_found_0 8 rfl rfl)
theorem dX4_found_9 : decode cX4_found 9 = .ok (.if_icmp .ne 32, 3) := dk_160 0 32 (dk_at dksX4_found_0 9 rfl rfl)
theorem dX4_found_12 : decode cX4_found 12 = .ok (.iconst 2, 1) := dk_5 (dk_at dksX4_found_0 12 rfl rfl)
theorem dX4_found_13 : decode cX4_found 13 = .ok (.aload_n 0, 1) := dk_42 (dk_at dksX4_found_0 13 rfl rfl)
theorem dX4_found_14 : decode cX4_found 14 = .ok (.getfield 25, 3) := dk_180 0 25 (dk_at dksX4_found_0 14 rfl rfl)
theorem dX4_found_17 : decode cX4_found 17 = .ok (.imul, 1) := dk_104 (dk_at dksX4_found_0 17 rfl rfl)
theorem dX4_found_18 : decode cX4_found 18 = .ok (.anewarray 15, 3) := dk_189 0 15 (dk_at dksX4_found_0 18 rfl rfl)
theorem dX4_found_21 : decode cX4_found 21 = .ok (.astore_n 3, 1) := dk_78 (dk_at dksX4_found_0 21 rfl rfl)
theorem dX4_found_22 : decode cX4_found 22 = .ok (.aload_n 0, 1) := dk_42 (dk_at dksX4_found_0 22 rfl rfl)
theorem dX4_found_23 : decode cX4_found 23 = .ok (.getfield 17, 3) := dk_180 0 17 (dk_at dksX4_found_1 0 rfl rfl)
theorem dX4_found_26 : decode cX4_found 26 = .ok (.iconst 0, 1) := dk_3 (dk_at dksX4_found_1 3 rfl rfl)
theorem dX4_found_27 : decode cX4_found 27 = .ok (.aload_n 3, 1) := dk_45 (dk_at dksX4_found_1 4 rfl rfl)
theorem dX4_found_28 : decode cX4_found 28 = .ok (.iconst 0, 1) := dk_3 (dk_at dksX4_found_1 5 rfl rfl)
theorem dX4_found_29 : decode cX4_found 29 = .ok (.aload_n 0, 1) := dk_42 (dk_at dksX4_found_1 6 rfl rfl)
theorem dX4_found_30 : decode cX4_found 30 = .ok (.getfield 25, 3) := dk_180 0 25 (dk_at dksX4_found_1 7 rfl rfl)
theorem dX4_found_33 : decode cX4_found 33 = .ok (.invokestatic 28, 3) := dk_184 0 28 (dk_at dksX4_found_1 10 rfl rfl)
theorem dX4_found_36 : decode cX4_found 36 = .ok (.aload_n 0, 1) := dk_42 (dk_at dksX4_found_1 13 rfl rfl)
theorem dX4_found_37 : decode cX4_found 37 = .ok (.aload_n 3, 1) := dk_45 (dk_at dksX4_found_1 14 rfl rfl)
theorem dX4_found_38 : decode cX4_found 38 = .ok (.putfield 17, 3) := dk_181 0 17 (dk_at dksX4_found_1 15 rfl rfl)
theorem dX4_found_41 : decode cX4_found 41 = .ok (.aload_n 0, 1) := dk_42 (dk_at dksX4_found_1 18 rfl rfl)
theorem dX4_found_42 : decode cX4_found 42 = .ok (.getfield 17, 3) := dk_180 0 17 (dk_at dksX4_found_1 19 rfl rfl)
theorem dX4_found_45 : decode cX4_found 45 = .ok (.aload_n 0, 1) := dk_42 (dk_at dksX4_found_1 22 rfl rfl)
theorem dX4_found_46 : decode cX4_found 46 = .ok (.getfield 25, 3) := dk_180 0 25 (dk_at dksX4_found_2 0 rfl rfl)
theorem dX4_found_49 : decode cX4_found 49 = .ok (.aaload, 1) := dk_50 (dk_at dksX4_found_2 3 rfl rfl)
theorem dX4_found_50 : decode cX4_found 50 = .ok (.ifnonnull 19, 3) := dk_199 0 19 (dk_at dksX4_found_2 4 rfl rfl)
theorem dX4_found_53 : decode cX4_found 53 = .ok (.aload_n 0, 1) := dk_42 (dk_at dksX4_found_2 7 rfl rfl)
theorem dX4_found_54 : decode cX4_found 54 = .ok (.getfield 17, 3) := dk_180 0 17 (dk_at dksX4_found_2 8 rfl rfl)
theorem dX4_found_57 : decode cX4_found 57 = .ok (.aload_n 0, 1) := dk_42 (dk_at dksX4_found_2 11 rfl rfl)
theorem dX4_found_58 : decode cX4_found 58 = .ok (.getfield 25, 3) := dk_180 0 25 (dk_at dksX4_found_2 12 rfl rfl)
theorem dX4_found_61 : decode cX4_found 61 = .ok (.new 15, 3) := dk_187 0 15 (dk_at dksX4_found_2 15 rfl rfl)
theorem dX4_found_64 : decode cX4_found 64 = .ok (.dup, 1) := dk_89 (dk_at dksX4_found_2 18 rfl rfl)
theorem dX4_found_65 : decode cX4_found 65 = .ok (.invokespecial 41, 3) := dk_183 0 41 (dk_at dksX4_found_2 19 rfl rfl)
theorem dX4_found_68 : decode cX4_found 68 = .ok (.aastore, 1) := dk_83 (dk_at dksX4_found_2 22 rfl rfl)
theorem dX4_found_69 : decode cX4_found 69 = .ok (.aload_n 0, 1) := dk_42 (dk_at dksX4_found_2 23 rfl rfl)
theorem dX4_found_70 : decode cX4_found 70 = .ok (.dup, 1) := dk_89 (dk_at dksX4_found_3 0 rfl rfl)
theorem dX4_found_71 : decode cX4_found 71 = .ok (.getfield 25, 3) := dk_180 0 25 (dk_at dksX4_found_3 1 rfl rfl)
theorem dX4_found_74 : decode cX4_found 74 = .ok (.iconst 1, 1) := dk_4 (dk_at dksX4_found_3 4 rfl rfl)
theorem dX4_found_75 : decode cX4_found 75 = .ok (.iadd, 1) := dk_96 (dk_at dksX4_found_3 5 rfl rfl)
theorem dX4_found_76 : decode cX4_found 76 = .ok (.putfield 25, 3) := dk_181 0 25 (dk_at dksX4_found_3 6 rfl rfl)
theorem dX4_found_79 : decode cX4_found 79 = .ok (.aload_n 0, 1) := dk_42 (dk_at dksX4_found_3 9 rfl rfl)
theorem dX4_found_80 : decode cX4_found 80 = .ok (.getfield 17, 3) := dk_180 0 17 (dk_at dksX4_found_3 10 rfl rfl)
theorem dX4_found_83 : decode cX4_found 83 = .ok (.aload_n 0, 1) := dk_42 (dk_at dksX4_found_3 13 rfl rfl)
theorem dX4_found_84 : decode cX4_found 84 = .ok (.getfield 25, 3) := dk_180 0 25 (dk_at dksX4_found_3 14 rfl rfl)
theorem dX4_found_87 : decode cX4_found 87 = .ok (.iconst 1, 1) := dk_4 (dk_at dksX4_found_3 17 rfl rfl)
theorem dX4_found_88 : decode cX4_found 88 = .ok (.isub, 1) := dk_100 (dk_at dksX4_found_3 18 rfl rfl)
theorem dX4_found_89 : decode cX4_found 89 = .ok (.aaload, 1) := dk_50 (dk_at dksX4_found_3 19 rfl rfl)
theorem dX4_found_90 : decode cX4_found 90 = .ok (.iload_n 1, 1) := dk_27 (dk_at dksX4_found_3 20 rfl rfl)
theorem dX4_found_91 : decode cX4_found 91 = .ok (.iload_n 2, 1) := dk_28 (dk_at dksX4_found_3 21 rfl rfl)
theorem dX4_found_92 : decode cX4_found 92 = .ok (.invokevirtual 42, 3) := dk_182 0 42 (dk_at dksX4_found_4 0 rfl rfl)
theorem dX4_found_95 : decode cX4_found 95 = .ok (.areturn, 1) := dk_176 (dk_at dksX4_found_4 3 rfl rfl)
abbrev cX4_finding : ByteArray := prog_20_method_3_code
def yX4_finding : MethodName := ⟨RX4, "finding", "()LGathersAllFaults$Finding;"⟩
def dkwX4_finding_4 : List UInt8 := [176]
abbrev dktX4_finding_4 : List UInt8 := dkwX4_finding_4 ++ []
def dkwX4_finding_3 : List UInt8 := [42, 89, 180, 0, 21, 4, 96, 181, 0, 21, 42, 180, 0, 9, 42, 180, 0, 21, 4, 100, 50, 182, 0, 37]
abbrev dktX4_finding_3 : List UInt8 := dkwX4_finding_3 ++ dktX4_finding_4
def dkwX4_finding_2 : List UInt8 := [180, 0, 21, 50, 199, 0, 20, 42, 180, 0, 9, 42, 180, 0, 21, 187, 0, 7, 89, 42, 183, 0, 34, 83]
abbrev dktX4_finding_2 : List UInt8 := dkwX4_finding_2 ++ dktX4_finding_3
def dkwX4_finding_1 : List UInt8 := [180, 0, 9, 3, 43, 3, 42, 180, 0, 21, 184, 0, 28, 42, 43, 181, 0, 9, 42, 180, 0, 9, 42]
abbrev dktX4_finding_1 : List UInt8 := dkwX4_finding_1 ++ dktX4_finding_2
def dkwX4_finding_0 : List UInt8 := [42, 180, 0, 21, 42, 180, 0, 9, 190, 160, 0, 32, 5, 42, 180, 0, 21, 104, 189, 0, 7, 76, 42]
abbrev dktX4_finding_0 : List UInt8 := dkwX4_finding_0 ++ dktX4_finding_1
theorem dksX4_finding_0 : cX4_finding.data.toList.drop 0 = dktX4_finding_0 := by decide +kernel
theorem dksX4_finding_1 : cX4_finding.data.toList.drop 23 = dktX4_finding_1 := dk_seg dksX4_finding_0 23 rfl rfl
theorem dksX4_finding_2 : cX4_finding.data.toList.drop 46 = dktX4_finding_2 := dk_seg dksX4_finding_1 23 rfl rfl
theorem dksX4_finding_3 : cX4_finding.data.toList.drop 70 = dktX4_finding_3 := dk_seg dksX4_finding_2 24 rfl rfl
theorem dksX4_finding_4 : cX4_finding.data.toList.drop 94 = dktX4_finding_4 := dk_seg dksX4_finding_3 24 rfl rfl
theorem dX4_finding_0 : decode cX4_finding 0 = .ok (.aload_n 0, 1) := dk_42 (dk_at dksX4_finding_0 0 rfl rfl)
theorem dX4_finding_1 : decode cX4_finding 1 = .ok (.getfield 21, 3) := dk_180 0 21 (dk_at dksX4_finding_0 1 rfl rfl)
theorem dX4_finding_4 : decode cX4_finding 4 = .ok (.aload_n 0, 1) := dk_42 (dk_at dksX4_finding_0 4 rfl rfl)
theorem dX4_finding_5 : decode cX4_finding 5 = .ok (.getfield 9, 3) := dk_180 0 9 (dk_at dksX4_finding_0 5 rfl rfl)
theorem dX4_finding_8 : decode cX4_finding 8 = .ok (.arraylength, 1) := dk_190 (dk_at dksX4_finding_0 8 rfl rfl)
theorem dX4_finding_9 : decode cX4_finding 9 = .ok (.if_icmp .ne 32, 3) := dk_160 0 32 (dk_at dksX4_finding_0 9 rfl rfl)
theorem dX4_finding_12 : decode cX4_finding 12 = .ok (.iconst 2, 1) := dk_5 (dk_at dksX4_finding_0 12 rfl rfl)
theorem dX4_finding_13 : decode cX4_finding 13 = .ok (.aload_n 0, 1) := dk_42 (dk_at dksX4_finding_0 13 rfl rfl)
theorem dX4_finding_14 : decode cX4_finding 14 = .ok (.getfield 21, 3) := dk_180 0 21 (dk_at dksX4_finding_0 14 rfl rfl)
theorem dX4_finding_17 : decode cX4_finding 17 = .ok (.imul, 1) := dk_104 (dk_at dksX4_finding_0 17 rfl rfl)
theorem dX4_finding_18 : decode cX4_finding 18 = .ok (.anewarray 7, 3) := dk_189 0 7 (dk_at dksX4_finding_0 18 rfl rfl)
theorem dX4_finding_21 : decode cX4_finding 21 = .ok (.astore_n 1, 1) := dk_76 (dk_at dksX4_finding_0 21 rfl rfl)
theorem dX4_finding_22 : decode cX4_finding 22 = .ok (.aload_n 0, 1) := dk_42 (dk_at dksX4_finding_0 22 rfl rfl)
theorem dX4_finding_23 : decode cX4_finding 23 = .ok (.getfield 9, 3) := dk_180 0 9 (dk_at dksX4_finding_1 0 rfl rfl)
theorem dX4_finding_26 : decode cX4_finding 26 = .ok (.iconst 0, 1) := dk_3 (dk_at dksX4_finding_1 3 rfl rfl)
theorem dX4_finding_27 : decode cX4_finding 27 = .ok (.aload_n 1, 1) := dk_43 (dk_at dksX4_finding_1 4 rfl rfl)
theorem dX4_finding_28 : decode cX4_finding 28 = .ok (.iconst 0, 1) := dk_3 (dk_at dksX4_finding_1 5 rfl rfl)
theorem dX4_finding_29 : decode cX4_finding 29 = .ok (.aload_n 0, 1) := dk_42 (dk_at dksX4_finding_1 6 rfl rfl)
theorem dX4_finding_30 : decode cX4_finding 30 = .ok (.getfield 21, 3) := dk_180 0 21 (dk_at dksX4_finding_1 7 rfl rfl)
theorem dX4_finding_33 : decode cX4_finding 33 = .ok (.invokestatic 28, 3) := dk_184 0 28 (dk_at dksX4_finding_1 10 rfl rfl)
theorem dX4_finding_36 : decode cX4_finding 36 = .ok (.aload_n 0, 1) := dk_42 (dk_at dksX4_finding_1 13 rfl rfl)
theorem dX4_finding_37 : decode cX4_finding 37 = .ok (.aload_n 1, 1) := dk_43 (dk_at dksX4_finding_1 14 rfl rfl)
theorem dX4_finding_38 : decode cX4_finding 38 = .ok (.putfield 9, 3) := dk_181 0 9 (dk_at dksX4_finding_1 15 rfl rfl)
theorem dX4_finding_41 : decode cX4_finding 41 = .ok (.aload_n 0, 1) := dk_42 (dk_at dksX4_finding_1 18 rfl rfl)
theorem dX4_finding_42 : decode cX4_finding 42 = .ok (.getfield 9, 3) := dk_180 0 9 (dk_at dksX4_finding_1 19 rfl rfl)
theorem dX4_finding_45 : decode cX4_finding 45 = .ok (.aload_n 0, 1) := dk_42 (dk_at dksX4_finding_1 22 rfl rfl)
theorem dX4_finding_46 : decode cX4_finding 46 = .ok (.getfield 21, 3) := dk_180 0 21 (dk_at dksX4_finding_2 0 rfl rfl)
theorem dX4_finding_49 : decode cX4_finding 49 = .ok (.aaload, 1) := dk_50 (dk_at dksX4_finding_2 3 rfl rfl)
theorem dX4_finding_50 : decode cX4_finding 50 = .ok (.ifnonnull 20, 3) := dk_199 0 20 (dk_at dksX4_finding_2 4 rfl rfl)
theorem dX4_finding_53 : decode cX4_finding 53 = .ok (.aload_n 0, 1) := dk_42 (dk_at dksX4_finding_2 7 rfl rfl)
theorem dX4_finding_54 : decode cX4_finding 54 = .ok (.getfield 9, 3) := dk_180 0 9 (dk_at dksX4_finding_2 8 rfl rfl)
theorem dX4_finding_57 : decode cX4_finding 57 = .ok (.aload_n 0, 1) := dk_42 (dk_at dksX4_finding_2 11 rfl rfl)
theorem dX4_finding_58 : decode cX4_finding 58 = .ok (.getfield 21, 3) := dk_180 0 21 (dk_at dksX4_finding_2 12 rfl rfl)
theorem dX4_finding_61 : decode cX4_finding 61 = .ok (.new 7, 3) := dk_187 0 7 (dk_at dksX4_finding_2 15 rfl rfl)
theorem dX4_finding_64 : decode cX4_finding 64 = .ok (.dup, 1) := dk_89 (dk_at dksX4_finding_2 18 rfl rfl)
theorem dX4_finding_65 : decode cX4_finding 65 = .ok (.aload_n 0, 1) := dk_42 (dk_at dksX4_finding_2 19 rfl rfl)
theorem dX4_finding_66 : decode cX4_finding 66 = .ok (.invokespecial 34, 3) := dk_183 0 34 (dk_at dksX4_finding_2 20 rfl rfl)
theorem dX4_finding_69 : decode cX4_finding 69 = .ok (.aastore, 1) := dk_83 (dk_at dksX4_finding_2 23 rfl rfl)
theorem dX4_finding_70 : decode cX4_finding 70 = .ok (.aload_n 0, 1) := dk_42 (dk_at dksX4_finding_3 0 rfl rfl)
theorem dX4_finding_71 : decode cX4_finding 71 = .ok (.dup, 1) := dk_89 (dk_at dksX4_finding_3 1 rfl rfl)
theorem dX4_finding_72 : decode cX4_finding 72 = .ok (.getfield 21, 3) := dk_180 0 21 (dk_at dksX4_finding_3 2 rfl rfl)
theorem dX4_finding_75 : decode cX4_finding 75 = .ok (.iconst 1, 1) := dk_4 (dk_at dksX4_finding_3 5 rfl rfl)
theorem dX4_finding_76 : decode cX4_finding 76 = .ok (.iadd, 1) := dk_96 (dk_at dksX4_finding_3 6 rfl rfl)
theorem dX4_finding_77 : decode cX4_finding 77 = .ok (.putfield 21, 3) := dk_181 0 21 (dk_at dksX4_finding_3 7 rfl rfl)
theorem dX4_finding_80 : decode cX4_finding 80 = .ok (.aload_n 0, 1) := dk_42 (dk_at dksX4_finding_3 10 rfl rfl)
theorem dX4_finding_81 : decode cX4_finding 81 = .ok (.getfield 9, 3) := dk_180 0 9 (dk_at dksX4_finding_3 11 rfl rfl)
theorem dX4_finding_84 : decode cX4_finding 84 = .ok (.aload_n 0, 1) := dk_42 (dk_at dksX4_finding_3 14 rfl rfl)
theorem dX4_finding_85 : decode cX4_finding 85 = .ok (.getfield 21, 3) := dk_180 0 21 (dk_at dksX4_finding_3 15 rfl rfl)
theorem dX4_finding_88 : decode cX4_finding 88 = .ok (.iconst 1, 1) := dk_4 (dk_at dksX4_finding_3 18 rfl rfl)
theorem dX4_finding_89 : decode cX4_finding 89 = .ok (.isub, 1) := dk_100 (dk_at dksX4_finding_3 19 rfl rfl)
theorem dX4_finding_90 : decode cX4_finding 90 = .ok (.aaload, 1) := dk_50 (dk_at dksX4_finding_3 20 rfl rfl)
theorem dX4_finding_91 : decode cX4_finding 91 = .ok (.invokevirtual 37, 3) := dk_182 0 37 (dk_at dksX4_finding_3 21 rfl rfl)
theorem dX4_finding_94 : decode cX4_finding 94 = .ok (.areturn, 1) := dk_176 (dk_at dksX4_finding_4 0 rfl rfl)
abbrev cX4_emptied : ByteArray := prog_20_method_2_code
def yX4_emptied : MethodName := ⟨RX4, "emptied", "()LGathersAllFaults$Sink;"⟩
def dkwX4_emptied_0 : List UInt8 := [42, 3, 181, 0, 21, 42, 3, 181, 0, 25, 42, 176]
abbrev dktX4_emptied_0 : List UInt8 := dkwX4_emptied_0 ++ []
theorem dksX4_emptied_0 : cX4_emptied.data.toList.drop 0 = dktX4_emptied_0 := by decide +kernel
theorem dX4_emptied_0 : decode cX4_emptied 0 = .ok (.aload_n 0, 1) := dk_42 (dk_at dksX4_emptied_0 0 rfl rfl)
theorem dX4_emptied_1 : decode cX4_emptied 1 = .ok (.iconst 0, 1) := dk_3 (dk_at dksX4_emptied_0 1 rfl rfl)
theorem dX4_emptied_2 : decode cX4_emptied 2 = .ok (.putfield 21, 3) := dk_181 0 21 (dk_at dksX4_emptied_0 2 rfl rfl)
theorem dX4_emptied_5 : decode cX4_emptied 5 = .ok (.aload_n 0, 1) := dk_42 (dk_at dksX4_emptied_0 5 rfl rfl)
theorem dX4_emptied_6 : decode cX4_emptied 6 = .ok (.iconst 0, 1) := dk_3 (dk_at dksX4_emptied_0 6 rfl rfl)
theorem dX4_emptied_7 : decode cX4_emptied 7 = .ok (.putfield 25, 3) := dk_181 0 25 (dk_at dksX4_emptied_0 7 rfl rfl)
theorem dX4_emptied_10 : decode cX4_emptied 10 = .ok (.aload_n 0, 1) := dk_42 (dk_at dksX4_emptied_0 10 rfl rfl)
theorem dX4_emptied_11 : decode cX4_emptied 11 = .ok (.areturn, 1) := dk_176 (dk_at dksX4_emptied_0 11 rfl rfl)
theorem q142 : (Jvm.Cond.initialized "GathersAllFaults$Sink") ∈ lw_all := lw_g (lw_at lw_m1 5 rfl) rfl
theorem q216 : (Jvm.Cond.instantiable "GathersAllFaults$Sink" (4 : Nat)) ∈ lw_all := lw_g (lw_at lw_m1 79 rfl) rfl
theorem q218 : (Jvm.Cond.instanceMethod ({ cls := "GathersAllFaults$Sink", name := "<init>", desc := "()V" } : Jvm.MethodName)) ∈ lw_all := lw_g (lw_at lw_m1 81 rfl) rfl
theorem q219 : (Jvm.Cond.code ({ cls := "GathersAllFaults$Sink", name := "<init>", desc := "()V" } : Jvm.MethodName) prog_20_method_1_code (1 : Nat) (Option.none : Option Jvm.ClassFile.FieldType)) ∈ lw_all := lw_g (lw_at lw_m1 82 rfl) rfl
theorem q220 : (Jvm.Cond.methodLink "GathersAllFaults$Sink" (1 : Nat) ({ cls := "java/lang/Object", name := "<init>", desc := "()V" } : Jvm.MethodName)) ∈ lw_all := lw_g (lw_at lw_m1 83 rfl) rfl
theorem q221 : (Jvm.Cond.classLink "GathersAllFaults$Sink" (7 : Nat) "GathersAllFaults$Finding") ∈ lw_all := lw_g (lw_at lw_m1 84 rfl) rfl
theorem q223 : (Jvm.Cond.classLink "GathersAllFaults$Sink" (15 : Nat) "GathersAllFaults$Found") ∈ lw_all := lw_g (lw_at lw_m1 86 rfl) rfl
theorem q225 : (Jvm.Cond.fieldLink "GathersAllFaults$Sink" (9 : Nat) "GathersAllFaults$Sink" "findings" "[LGathersAllFaults$Finding;") ∈ lw_all := lw_g (lw_at lw_m1 88 rfl) rfl
theorem q226 : (Jvm.Cond.fieldLink "GathersAllFaults$Sink" (21 : Nat) "GathersAllFaults$Sink" "findingMany" "I") ∈ lw_all := lw_g (lw_at lw_m1 89 rfl) rfl
theorem q229 : (Jvm.Cond.fieldLink "GathersAllFaults$Sink" (17 : Nat) "GathersAllFaults$Sink" "founds" "[LGathersAllFaults$Found;") ∈ lw_all := lw_g (lw_at lw_m1 92 rfl) rfl
theorem q230 : (Jvm.Cond.fieldLink "GathersAllFaults$Sink" (25 : Nat) "GathersAllFaults$Sink" "foundMany" "I") ∈ lw_all := lw_g (lw_at lw_m1 93 rfl) rfl
theorem q231 : (Jvm.Cond.lays "GathersAllFaults$Sink" "GathersAllFaults$Sink" "findings" "[LGathersAllFaults$Finding;") ∈ lw_all := lw_g (lw_at lw_m1 94 rfl) rfl
theorem q232 : (Jvm.Cond.soleField "GathersAllFaults$Sink" "findings") ∈ lw_all := lw_g (lw_at lw_m1 95 rfl) rfl
theorem q233 : (Jvm.Cond.lays "GathersAllFaults$Sink" "GathersAllFaults$Sink" "findingMany" "I") ∈ lw_all := lw_g (lw_at lw_m1 96 rfl) rfl
theorem q234 : (Jvm.Cond.soleField "GathersAllFaults$Sink" "findingMany") ∈ lw_all := lw_g (lw_at lw_m1 97 rfl) rfl
theorem q235 : (Jvm.Cond.lays "GathersAllFaults$Sink" "GathersAllFaults$Sink" "founds" "[LGathersAllFaults$Found;") ∈ lw_all := lw_g (lw_at lw_m1 98 rfl) rfl
theorem q236 : (Jvm.Cond.soleField "GathersAllFaults$Sink" "founds") ∈ lw_all := lw_g (lw_at lw_m1 99 rfl) rfl
theorem q237 : (Jvm.Cond.lays "GathersAllFaults$Sink" "GathersAllFaults$Sink" "foundMany" "I") ∈ lw_all := lw_g (lw_at lw_m1 100 rfl) rfl
theorem q238 : (Jvm.Cond.soleField "GathersAllFaults$Sink" "foundMany") ∈ lw_all := lw_g (lw_at lw_m1 101 rfl) rfl
theorem q239 : (Jvm.Cond.superclass "GathersAllFaults$Sink" "java/lang/Object") ∈ lw_all := lw_g (lw_at lw_m1 102 rfl) rfl
theorem q652 : (Jvm.Cond.selects "GathersAllFaults$Sink" ({ cls := "java/lang/Object", name := "hashCode", desc := "()I" } : Jvm.MethodName) ({ cls := "java/lang/Object", name := "hashCode", desc := "()I" } : Jvm.MethodName)) ∈ lw_all := lw_g (lw_at lw_m3 35 rfl) rfl
theorem q717 : (Jvm.Cond.selects "GathersAllFaults$Sink" ({ cls := "java/lang/Object", name := "equals", desc := "(Ljava/lang/Object;)Z" } : Jvm.MethodName) ({ cls := "java/lang/Object", name := "equals", desc := "(Ljava/lang/Object;)Z" } : Jvm.MethodName)) ∈ lw_all := lw_g (lw_at lw_m3 100 rfl) rfl
theorem q766 : (Jvm.Cond.selects "GathersAllFaults$Sink" ({ cls := "java/lang/Object", name := "getClass", desc := "()Ljava/lang/Class;" } : Jvm.MethodName) ({ cls := "java/lang/Object", name := "getClass", desc := "()Ljava/lang/Class;" } : Jvm.MethodName)) ∈ lw_all := lw_g (lw_at lw_m3 149 rfl) rfl
theorem q1266 : (Jvm.Cond.instanceMethod ({ cls := "GathersAllFaults$Sink", name := "found", desc := "(II)LGathersAllFaults$Found;" } : Jvm.MethodName)) ∈ lw_all := lw_g (lw_at lw_m5 169 rfl) rfl
theorem q1267 : (Jvm.Cond.selects "GathersAllFaults$Sink" ({ cls := "GathersAllFaults$Sink", name := "found", desc := "(II)LGathersAllFaults$Found;" } : Jvm.MethodName) ({ cls := "GathersAllFaults$Sink", name := "found", desc := "(II)LGathersAllFaults$Found;" } : Jvm.MethodName)) ∈ lw_all := lw_g (lw_at lw_m5 170 rfl) rfl
theorem q1268 : (Jvm.Cond.code ({ cls := "GathersAllFaults$Sink", name := "found", desc := "(II)LGathersAllFaults$Found;" } : Jvm.MethodName) prog_20_method_4_code (4 : Nat) (Option.some (Jvm.ClassFile.FieldType.object "GathersAllFaults$Found"))) ∈ lw_all := lw_g (lw_at lw_m5 171 rfl) rfl
theorem q1269 : (Jvm.Cond.methodLink "GathersAllFaults$Sink" (28 : Nat) ({ cls := "java/lang/System", name := "arraycopy", desc := "(Ljava/lang/Object;ILjava/lang/Object;II)V" } : Jvm.MethodName)) ∈ lw_all := lw_g (lw_at lw_m5 172 rfl) rfl
theorem q1271 : (Jvm.Cond.methodLinkNest "GathersAllFaults$Sink" (41 : Nat) ({ cls := "GathersAllFaults$Found", name := "<init>", desc := "()V" } : Jvm.MethodName) "GathersAllFaults") ∈ lw_tbl := lw_at lw_m5 174 rfl
theorem q1284 : (Jvm.Cond.methodLink "GathersAllFaults$Sink" (42 : Nat) ({ cls := "GathersAllFaults$Found", name := "of", desc := "(II)LGathersAllFaults$Found;" } : Jvm.MethodName)) ∈ lw_all := lw_g (lw_at lw_m5 187 rfl) rfl
theorem q1403 : (Jvm.Cond.instanceMethod ({ cls := "GathersAllFaults$Sink", name := "finding", desc := "()LGathersAllFaults$Finding;" } : Jvm.MethodName)) ∈ lw_all := lw_g (lw_at lw_m6 66 rfl) rfl
theorem q1404 : (Jvm.Cond.selects "GathersAllFaults$Sink" ({ cls := "GathersAllFaults$Sink", name := "finding", desc := "()LGathersAllFaults$Finding;" } : Jvm.MethodName) ({ cls := "GathersAllFaults$Sink", name := "finding", desc := "()LGathersAllFaults$Finding;" } : Jvm.MethodName)) ∈ lw_all := lw_g (lw_at lw_m6 67 rfl) rfl
theorem q1405 : (Jvm.Cond.code ({ cls := "GathersAllFaults$Sink", name := "finding", desc := "()LGathersAllFaults$Finding;" } : Jvm.MethodName) prog_20_method_3_code (2 : Nat) (Option.some (Jvm.ClassFile.FieldType.object "GathersAllFaults$Finding"))) ∈ lw_all := lw_g (lw_at lw_m6 68 rfl) rfl
theorem q1407 : (Jvm.Cond.methodLink "GathersAllFaults$Sink" (34 : Nat) ({ cls := "GathersAllFaults$Finding", name := "<init>", desc := "(LGathersAllFaults$Sink;)V" } : Jvm.MethodName)) ∈ lw_all := lw_g (lw_at lw_m6 70 rfl) rfl
theorem q1441 : (Jvm.Cond.methodLink "GathersAllFaults$Sink" (37 : Nat) ({ cls := "GathersAllFaults$Finding", name := "emptied", desc := "()LGathersAllFaults$Finding;" } : Jvm.MethodName)) ∈ lw_all := lw_g (lw_at lw_m6 104 rfl) rfl
theorem q1725 : (Jvm.Cond.instanceMethod ({ cls := "GathersAllFaults$Sink", name := "emptied", desc := "()LGathersAllFaults$Sink;" } : Jvm.MethodName)) ∈ lw_all := lw_g (lw_at lw_m7 148 rfl) rfl
theorem q1726 : (Jvm.Cond.selects "GathersAllFaults$Sink" ({ cls := "GathersAllFaults$Sink", name := "emptied", desc := "()LGathersAllFaults$Sink;" } : Jvm.MethodName) ({ cls := "GathersAllFaults$Sink", name := "emptied", desc := "()LGathersAllFaults$Sink;" } : Jvm.MethodName)) ∈ lw_all := lw_g (lw_at lw_m7 149 rfl) rfl
theorem q1727 : (Jvm.Cond.code ({ cls := "GathersAllFaults$Sink", name := "emptied", desc := "()LGathersAllFaults$Sink;" } : Jvm.MethodName) prog_20_method_2_code (1 : Nat) (Option.some (Jvm.ClassFile.FieldType.object "GathersAllFaults$Sink"))) ∈ lw_all := lw_g (lw_at lw_m7 150 rfl) rfl
theorem q2742 : (Jvm.Cond.castable "GathersAllFaults$Sink" "java/lang/Object") ∈ lw_tbl := lw_at lw_m11 205 rfl
theorem in_X4 : ∀ w ∈ wsX40, w ∈ lw_all := lw_in wsX40 [231, 233, 235, 237] (by decide +kernel) (by decide +kernel)

/-! GathersAllFaults$Nothing -/
set_option maxRecDepth 100000
def RX5 : String := "GathersAllFaults$Nothing"
abbrev cX5_init : ByteArray := prog_11_method_1_code
def yX5_init : MethodName := ⟨RX5, "<init>", "()V"⟩
theorem dX5_init_0 : decode cX5_init 0 = .ok (.aload_n 0, 1) := by decide +kernel
theorem dX5_init_1 : decode cX5_init 1 = .ok (.invokespecial 1, 3) := by decide +kernel
theorem dX5_init_4 : decode cX5_init 4 = .ok (.return_, 1) := by decide +kernel
abbrev cX5_hashCode : ByteArray := prog_11_method_10_code
def yX5_hashCode : MethodName := ⟨RX5, "hashCode", "()I"⟩
theorem dX5_hashCode_0 : decode cX5_hashCode 0 = .ok (.iconst 5, 1) := by decide +kernel
theorem dX5_hashCode_1 : decode cX5_hashCode 1 = .ok (.ireturn, 1) := by decide +kernel
abbrev cX5_equals : ByteArray := prog_11_method_9_code
def yX5_equals : MethodName := ⟨RX5, "equals", "(Ljava/lang/Object;)Z"⟩
theorem dX5_equals_0 : decode cX5_equals 0 = .ok (.aload_n 1, 1) := by decide +kernel
theorem dX5_equals_1 : decode cX5_equals 1 = .ok (.instanceof 7, 3) := by decide +kernel
theorem dX5_equals_4 : decode cX5_equals 4 = .ok (.ireturn, 1) := by decide +kernel
abbrev cX5_size : ByteArray := prog_11_method_4_code
def yX5_size : MethodName := ⟨RX5, "size", "()I"⟩
theorem dX5_size_0 : decode cX5_size 0 = .ok (.iconst 1, 1) := by decide +kernel
theorem dX5_size_1 : decode cX5_size 1 = .ok (.ireturn, 1) := by decide +kernel
abbrev cX5_lay : ByteArray := prog_11_method_8_code
def yX5_lay : MethodName := ⟨RX5, "lay", "(LGathersAllFaults$Row;I)V"⟩
theorem dX5_lay_0 : decode cX5_lay 0 = .ok (.return_, 1) := by decide +kernel
abbrev cX5_kind : ByteArray := prog_11_method_2_code
def yX5_kind : MethodName := ⟨RX5, "kind", "()I"⟩
theorem dX5_kind_0 : decode cX5_kind 0 = .ok (.iconst 1, 1) := by decide +kernel
theorem dX5_kind_1 : decode cX5_kind 1 = .ok (.ireturn, 1) := by decide +kernel
abbrev cX5_many : ByteArray := prog_11_method_3_code
def yX5_many : MethodName := ⟨RX5, "many", "()I"⟩
theorem dX5_many_0 : decode cX5_many 0 = .ok (.iconst 0, 1) := by decide +kernel
theorem dX5_many_1 : decode cX5_many 1 = .ok (.ireturn, 1) := by decide +kernel
abbrev cX5_step : ByteArray := prog_11_method_6_code
def yX5_step : MethodName := ⟨RX5, "step", "(I)LGathersAllFaults$Value;"⟩
theorem dX5_step_0 : decode cX5_step 0 = .ok (.aconst_null, 1) := by decide +kernel
theorem dX5_step_1 : decode cX5_step 1 = .ok (.areturn, 1) := by decide +kernel
abbrev cX5_with : ByteArray := prog_11_method_7_code
def yX5_with : MethodName := ⟨RX5, "with", "(ILGathersAllFaults$Value;)LGathersAllFaults$Value;"⟩
theorem dX5_with_0 : decode cX5_with 0 = .ok (.aload_n 0, 1) := by decide +kernel
theorem dX5_with_1 : decode cX5_with 1 = .ok (.areturn, 1) := by decide +kernel
abbrev cX5_total : ByteArray := prog_11_method_5_code
def yX5_total : MethodName := ⟨RX5, "total", "()I"⟩
theorem dX5_total_0 : decode cX5_total 0 = .ok (.iconst 0, 1) := by decide +kernel
theorem dX5_total_1 : decode cX5_total 1 = .ok (.ireturn, 1) := by decide +kernel
theorem q143 : (Jvm.Cond.initialized "GathersAllFaults$Nothing") ∈ lw_all := lw_g (lw_at lw_m1 6 rfl) rfl
theorem q253 : (Jvm.Cond.instantiable "GathersAllFaults$Nothing" (0 : Nat)) ∈ lw_all := lw_g (lw_at lw_m1 116 rfl) rfl
theorem q255 : (Jvm.Cond.instanceMethod ({ cls := "GathersAllFaults$Nothing", name := "<init>", desc := "()V" } : Jvm.MethodName)) ∈ lw_all := lw_g (lw_at lw_m1 118 rfl) rfl
theorem q256 : (Jvm.Cond.code ({ cls := "GathersAllFaults$Nothing", name := "<init>", desc := "()V" } : Jvm.MethodName) prog_11_method_1_code (1 : Nat) (Option.none : Option Jvm.ClassFile.FieldType)) ∈ lw_all := lw_g (lw_at lw_m1 119 rfl) rfl
theorem q257 : (Jvm.Cond.methodLinkNest "GathersAllFaults$Nothing" (1 : Nat) ({ cls := "GathersAllFaults$Value", name := "<init>", desc := "()V" } : Jvm.MethodName) "GathersAllFaults") ∈ lw_tbl := lw_at lw_m1 120 rfl
theorem q258 : (Jvm.Cond.superclass "GathersAllFaults$Nothing" "GathersAllFaults$Value") ∈ lw_all := lw_g (lw_at lw_m1 121 rfl) rfl
theorem q620 : (Jvm.Cond.selects "GathersAllFaults$Nothing" ({ cls := "GathersAllFaults$Value", name := "hashCode", desc := "()I" } : Jvm.MethodName) ({ cls := "GathersAllFaults$Nothing", name := "hashCode", desc := "()I" } : Jvm.MethodName)) ∈ lw_all := lw_g (lw_at lw_m3 3 rfl) rfl
theorem q621 : (Jvm.Cond.instanceMethod ({ cls := "GathersAllFaults$Nothing", name := "hashCode", desc := "()I" } : Jvm.MethodName)) ∈ lw_all := lw_g (lw_at lw_m3 4 rfl) rfl
theorem q622 : (Jvm.Cond.code ({ cls := "GathersAllFaults$Nothing", name := "hashCode", desc := "()I" } : Jvm.MethodName) prog_11_method_10_code (1 : Nat) (Option.some Jvm.ClassFile.FieldType.int)) ∈ lw_all := lw_g (lw_at lw_m3 5 rfl) rfl
theorem q645 : (Jvm.Cond.selects "GathersAllFaults$Nothing" ({ cls := "java/lang/Object", name := "hashCode", desc := "()I" } : Jvm.MethodName) ({ cls := "GathersAllFaults$Nothing", name := "hashCode", desc := "()I" } : Jvm.MethodName)) ∈ lw_all := lw_g (lw_at lw_m3 28 rfl) rfl
theorem q683 : (Jvm.Cond.selects "GathersAllFaults$Nothing" ({ cls := "GathersAllFaults$Value", name := "equals", desc := "(Ljava/lang/Object;)Z" } : Jvm.MethodName) ({ cls := "GathersAllFaults$Nothing", name := "equals", desc := "(Ljava/lang/Object;)Z" } : Jvm.MethodName)) ∈ lw_all := lw_g (lw_at lw_m3 66 rfl) rfl
theorem q684 : (Jvm.Cond.instanceMethod ({ cls := "GathersAllFaults$Nothing", name := "equals", desc := "(Ljava/lang/Object;)Z" } : Jvm.MethodName)) ∈ lw_all := lw_g (lw_at lw_m3 67 rfl) rfl
theorem q685 : (Jvm.Cond.code ({ cls := "GathersAllFaults$Nothing", name := "equals", desc := "(Ljava/lang/Object;)Z" } : Jvm.MethodName) prog_11_method_9_code (2 : Nat) (Option.some Jvm.ClassFile.FieldType.boolean)) ∈ lw_all := lw_g (lw_at lw_m3 68 rfl) rfl
theorem q686 : (Jvm.Cond.classLink "GathersAllFaults$Nothing" (7 : Nat) "GathersAllFaults$Nothing") ∈ lw_all := lw_g (lw_at lw_m3 69 rfl) rfl
theorem q710 : (Jvm.Cond.selects "GathersAllFaults$Nothing" ({ cls := "java/lang/Object", name := "equals", desc := "(Ljava/lang/Object;)Z" } : Jvm.MethodName) ({ cls := "GathersAllFaults$Nothing", name := "equals", desc := "(Ljava/lang/Object;)Z" } : Jvm.MethodName)) ∈ lw_all := lw_g (lw_at lw_m3 93 rfl) rfl
theorem q759 : (Jvm.Cond.selects "GathersAllFaults$Nothing" ({ cls := "java/lang/Object", name := "getClass", desc := "()Ljava/lang/Class;" } : Jvm.MethodName) ({ cls := "java/lang/Object", name := "getClass", desc := "()Ljava/lang/Class;" } : Jvm.MethodName)) ∈ lw_all := lw_g (lw_at lw_m3 142 rfl) rfl
theorem q1234 : (Jvm.Cond.instanceMethod ({ cls := "GathersAllFaults$Nothing", name := "size", desc := "()I" } : Jvm.MethodName)) ∈ lw_all := lw_g (lw_at lw_m5 137 rfl) rfl
theorem q1235 : (Jvm.Cond.code ({ cls := "GathersAllFaults$Nothing", name := "size", desc := "()I" } : Jvm.MethodName) prog_11_method_4_code (1 : Nat) (Option.some Jvm.ClassFile.FieldType.int)) ∈ lw_all := lw_g (lw_at lw_m5 138 rfl) rfl
theorem q1241 : (Jvm.Cond.selects "GathersAllFaults$Nothing" ({ cls := "GathersAllFaults$Value", name := "size", desc := "()I" } : Jvm.MethodName) ({ cls := "GathersAllFaults$Nothing", name := "size", desc := "()I" } : Jvm.MethodName)) ∈ lw_all := lw_g (lw_at lw_m5 144 rfl) rfl
theorem q1603 : (Jvm.Cond.selects "GathersAllFaults$Nothing" ({ cls := "GathersAllFaults$Value", name := "layAll", desc := "(LGathersAllFaults$Row;I)V" } : Jvm.MethodName) ({ cls := "GathersAllFaults$Value", name := "layAll", desc := "(LGathersAllFaults$Row;I)V" } : Jvm.MethodName)) ∈ lw_all := lw_g (lw_at lw_m7 26 rfl) rfl
theorem q1630 : (Jvm.Cond.selects "GathersAllFaults$Nothing" ({ cls := "GathersAllFaults$Value", name := "lay", desc := "(LGathersAllFaults$Row;I)V" } : Jvm.MethodName) ({ cls := "GathersAllFaults$Nothing", name := "lay", desc := "(LGathersAllFaults$Row;I)V" } : Jvm.MethodName)) ∈ lw_all := lw_g (lw_at lw_m7 53 rfl) rfl
theorem q1631 : (Jvm.Cond.instanceMethod ({ cls := "GathersAllFaults$Nothing", name := "lay", desc := "(LGathersAllFaults$Row;I)V" } : Jvm.MethodName)) ∈ lw_all := lw_g (lw_at lw_m7 54 rfl) rfl
theorem q1632 : (Jvm.Cond.code ({ cls := "GathersAllFaults$Nothing", name := "lay", desc := "(LGathersAllFaults$Row;I)V" } : Jvm.MethodName) prog_11_method_8_code (3 : Nat) (Option.none : Option Jvm.ClassFile.FieldType)) ∈ lw_all := lw_g (lw_at lw_m7 55 rfl) rfl
theorem q1649 : (Jvm.Cond.selects "GathersAllFaults$Nothing" ({ cls := "GathersAllFaults$Value", name := "kind", desc := "()I" } : Jvm.MethodName) ({ cls := "GathersAllFaults$Nothing", name := "kind", desc := "()I" } : Jvm.MethodName)) ∈ lw_all := lw_g (lw_at lw_m7 72 rfl) rfl
theorem q1650 : (Jvm.Cond.instanceMethod ({ cls := "GathersAllFaults$Nothing", name := "kind", desc := "()I" } : Jvm.MethodName)) ∈ lw_all := lw_g (lw_at lw_m7 73 rfl) rfl
theorem q1651 : (Jvm.Cond.code ({ cls := "GathersAllFaults$Nothing", name := "kind", desc := "()I" } : Jvm.MethodName) prog_11_method_2_code (1 : Nat) (Option.some Jvm.ClassFile.FieldType.int)) ∈ lw_all := lw_g (lw_at lw_m7 74 rfl) rfl
theorem q1662 : (Jvm.Cond.selects "GathersAllFaults$Nothing" ({ cls := "GathersAllFaults$Value", name := "many", desc := "()I" } : Jvm.MethodName) ({ cls := "GathersAllFaults$Nothing", name := "many", desc := "()I" } : Jvm.MethodName)) ∈ lw_all := lw_g (lw_at lw_m7 85 rfl) rfl
theorem q1663 : (Jvm.Cond.instanceMethod ({ cls := "GathersAllFaults$Nothing", name := "many", desc := "()I" } : Jvm.MethodName)) ∈ lw_all := lw_g (lw_at lw_m7 86 rfl) rfl
theorem q1664 : (Jvm.Cond.code ({ cls := "GathersAllFaults$Nothing", name := "many", desc := "()I" } : Jvm.MethodName) prog_11_method_3_code (1 : Nat) (Option.some Jvm.ClassFile.FieldType.int)) ∈ lw_all := lw_g (lw_at lw_m7 87 rfl) rfl
theorem q1688 : (Jvm.Cond.selects "GathersAllFaults$Nothing" ({ cls := "GathersAllFaults$Value", name := "step", desc := "(I)LGathersAllFaults$Value;" } : Jvm.MethodName) ({ cls := "GathersAllFaults$Nothing", name := "step", desc := "(I)LGathersAllFaults$Value;" } : Jvm.MethodName)) ∈ lw_all := lw_g (lw_at lw_m7 111 rfl) rfl
theorem q1689 : (Jvm.Cond.instanceMethod ({ cls := "GathersAllFaults$Nothing", name := "step", desc := "(I)LGathersAllFaults$Value;" } : Jvm.MethodName)) ∈ lw_all := lw_g (lw_at lw_m7 112 rfl) rfl
theorem q1690 : (Jvm.Cond.code ({ cls := "GathersAllFaults$Nothing", name := "step", desc := "(I)LGathersAllFaults$Value;" } : Jvm.MethodName) prog_11_method_6_code (2 : Nat) (Option.some (Jvm.ClassFile.FieldType.object "GathersAllFaults$Value"))) ∈ lw_all := lw_g (lw_at lw_m7 113 rfl) rfl
theorem q1703 : (Jvm.Cond.selects "GathersAllFaults$Nothing" ({ cls := "GathersAllFaults$Value", name := "with", desc := "(ILGathersAllFaults$Value;)LGathersAllFaults$Value;" } : Jvm.MethodName) ({ cls := "GathersAllFaults$Nothing", name := "with", desc := "(ILGathersAllFaults$Value;)LGathersAllFaults$Value;" } : Jvm.MethodName)) ∈ lw_all := lw_g (lw_at lw_m7 126 rfl) rfl
theorem q1704 : (Jvm.Cond.instanceMethod ({ cls := "GathersAllFaults$Nothing", name := "with", desc := "(ILGathersAllFaults$Value;)LGathersAllFaults$Value;" } : Jvm.MethodName)) ∈ lw_all := lw_g (lw_at lw_m7 127 rfl) rfl
theorem q1705 : (Jvm.Cond.code ({ cls := "GathersAllFaults$Nothing", name := "with", desc := "(ILGathersAllFaults$Value;)LGathersAllFaults$Value;" } : Jvm.MethodName) prog_11_method_7_code (3 : Nat) (Option.some (Jvm.ClassFile.FieldType.object "GathersAllFaults$Value"))) ∈ lw_all := lw_g (lw_at lw_m7 128 rfl) rfl
theorem q1768 : (Jvm.Cond.instanceMethod ({ cls := "GathersAllFaults$Nothing", name := "total", desc := "()I" } : Jvm.MethodName)) ∈ lw_all := lw_g (lw_at lw_m7 191 rfl) rfl
theorem q1769 : (Jvm.Cond.code ({ cls := "GathersAllFaults$Nothing", name := "total", desc := "()I" } : Jvm.MethodName) prog_11_method_5_code (1 : Nat) (Option.some Jvm.ClassFile.FieldType.int)) ∈ lw_all := lw_g (lw_at lw_m7 192 rfl) rfl
theorem q1775 : (Jvm.Cond.selects "GathersAllFaults$Nothing" ({ cls := "GathersAllFaults$Value", name := "total", desc := "()I" } : Jvm.MethodName) ({ cls := "GathersAllFaults$Nothing", name := "total", desc := "()I" } : Jvm.MethodName)) ∈ lw_all := lw_g (lw_at lw_m7 198 rfl) rfl
theorem q2735 : (Jvm.Cond.castable "GathersAllFaults$Nothing" "GathersAllFaults$Value") ∈ lw_tbl := lw_at lw_m11 198 rfl
theorem q2743 : (Jvm.Cond.castable "GathersAllFaults$Nothing" "java/lang/Object") ∈ lw_tbl := lw_at lw_m11 206 rfl

/-! GathersAllFaults$Refusal -/
set_option maxRecDepth 100000
def RX7 : String := "GathersAllFaults$Refusal"
abbrev cX7_init : ByteArray := prog_17_method_1_code
def yX7_init : MethodName := ⟨RX7, "<init>", "()V"⟩
theorem dX7_init_0 : decode cX7_init 0 = .ok (.aload_n 0, 1) := by decide +kernel
theorem dX7_init_1 : decode cX7_init 1 = .ok (.invokespecial 1, 3) := by decide +kernel
theorem dX7_init_4 : decode cX7_init 4 = .ok (.return_, 1) := by decide +kernel
theorem q148 : (Jvm.Cond.initialized "GathersAllFaults$Refusal") ∈ lw_all := lw_g (lw_at lw_m1 11 rfl) rfl
theorem q346 : (Jvm.Cond.declares ({ cls := "GathersAllFaults$Refusal", name := "<init>", desc := "()V" } : Jvm.MethodName)) ∈ lw_tbl := lw_at lw_m1 209 rfl
theorem q389 : (Jvm.Cond.instanceMethod ({ cls := "GathersAllFaults$Refusal", name := "<init>", desc := "()V" } : Jvm.MethodName)) ∈ lw_all := lw_g (lw_at lw_m2 12 rfl) rfl
theorem q390 : (Jvm.Cond.code ({ cls := "GathersAllFaults$Refusal", name := "<init>", desc := "()V" } : Jvm.MethodName) prog_17_method_1_code (1 : Nat) (Option.none : Option Jvm.ClassFile.FieldType)) ∈ lw_all := lw_g (lw_at lw_m2 13 rfl) rfl
theorem q391 : (Jvm.Cond.methodLink "GathersAllFaults$Refusal" (1 : Nat) ({ cls := "java/lang/RuntimeException", name := "<init>", desc := "()V" } : Jvm.MethodName)) ∈ lw_all := lw_g (lw_at lw_m2 14 rfl) rfl
theorem q1930 : (Jvm.Cond.declares ({ cls := "GathersAllFaults$Refusal", name := "number", desc := "()I" } : Jvm.MethodName)) ∈ lw_tbl := lw_at lw_m8 113 rfl
theorem q1931 : (Jvm.Cond.sameMethod "GathersAllFaults$Refusal" "GathersAllFaults$Refusal" "number" "()I") ∈ lw_all := lw_g (lw_at lw_m8 114 rfl) rfl

/-! GathersAllFaults$Refused -/
set_option maxRecDepth 100000
def RX8 : String := "GathersAllFaults$Refused"
def TX8 : u_T := fun k => match k with
  | 0 => ("java/lang/Throwable", "cause", "Ljava/lang/Throwable;", false)
  | 1 => ("java/lang/Throwable", "stackTrace", "[Ljava/lang/StackTraceElement;", false)
  | 2 => ("java/lang/Throwable", "suppressedExceptions", "Ljava/util/List;", false)
  | 3 => ("java/lang/Throwable", "detailMessage", "Ljava/lang/String;", false)
  | 4 => ("java/lang/Throwable", "backtrace", "Ljava/lang/Object;", false)
  | 5 => ("java/lang/Throwable", "depth", "I", false)
  | _ => ("GathersAllFaults$Refused", "number", "I", true)
def tyX8 : Nat → FieldType := fun k => match k with
  | 0 => .object "java/lang/Throwable"
  | 1 => .array (.object "java/lang/StackTraceElement")
  | 2 => .object "java/util/List"
  | 3 => .object "java/lang/String"
  | 4 => .object "java/lang/Object"
  | 5 => .int
  | _ => .int
abbrev wsX80 : List Cond := u_ws RX8 TX8 7
theorem nmX8 : ∀ a, a < 7 → ∀ b, b < 7 → a ≠ b → (TX8 a).2.1 ≠ (TX8 b).2.1 := by decide +kernel
theorem tyX8_ok : ∀ k, k < 7 → parseFieldDescriptor (TX8 k).2.2.1 = some (tyX8 k) := by decide +kernel
abbrev cX8_init : ByteArray := prog_18_method_1_code
def yX8_init : MethodName := ⟨RX8, "<init>", "(I)V"⟩
def dkwX8_init_0 : List UInt8 := [42, 183, 0, 1, 42, 27, 181, 0, 7, 177]
abbrev dktX8_init_0 : List UInt8 := dkwX8_init_0 ++ []
theorem dksX8_init_0 : cX8_init.data.toList.drop 0 = dktX8_init_0 := by decide +kernel
theorem dX8_init_0 : decode cX8_init 0 = .ok (.aload_n 0, 1) := dk_42 (dk_at dksX8_init_0 0 rfl rfl)
theorem dX8_init_1 : decode cX8_init 1 = .ok (.invokespecial 1, 3) := dk_183 0 1 (dk_at dksX8_init_0 1 rfl rfl)
theorem dX8_init_4 : decode cX8_init 4 = .ok (.aload_n 0, 1) := dk_42 (dk_at dksX8_init_0 4 rfl rfl)
theorem dX8_init_5 : decode cX8_init 5 = .ok (.iload_n 1, 1) := dk_27 (dk_at dksX8_init_0 5 rfl rfl)
theorem dX8_init_6 : decode cX8_init 6 = .ok (.putfield 7, 3) := dk_181 0 7 (dk_at dksX8_init_0 6 rfl rfl)
theorem dX8_init_9 : decode cX8_init 9 = .ok (.return_, 1) := dk_177 (dk_at dksX8_init_0 9 rfl rfl)
abbrev cX8_number : ByteArray := prog_18_method_2_code
def yX8_number : MethodName := ⟨RX8, "number", "()I"⟩
theorem dX8_number_0 : decode cX8_number 0 = .ok (.aload_n 0, 1) := by decide +kernel
theorem dX8_number_1 : decode cX8_number 1 = .ok (.getfield 7, 3) := by decide +kernel
theorem dX8_number_4 : decode cX8_number 4 = .ok (.ireturn, 1) := by decide +kernel
theorem q149 : (Jvm.Cond.initialized "GathersAllFaults$Refused") ∈ lw_all := lw_g (lw_at lw_m1 12 rfl) rfl
theorem q344 : (Jvm.Cond.instantiable "GathersAllFaults$Refused" (7 : Nat)) ∈ lw_all := lw_g (lw_at lw_m1 207 rfl) rfl
theorem q345 : (Jvm.Cond.castable "GathersAllFaults$Refused" "GathersAllFaults$Refused") ∈ lw_tbl := lw_at lw_m1 208 rfl
theorem q353 : (Jvm.Cond.selects "GathersAllFaults$Refused" ({ cls := "java/lang/Throwable", name := "fillInStackTrace", desc := "(I)Ljava/lang/Throwable;" } : Jvm.MethodName) ({ cls := "java/lang/Throwable", name := "fillInStackTrace", desc := "(I)Ljava/lang/Throwable;" } : Jvm.MethodName)) ∈ lw_all := lw_g (lw_at lw_m1 216 rfl) rfl
theorem q354 : (Jvm.Cond.selects "GathersAllFaults$Refused" ({ cls := "java/lang/Throwable", name := "fillInStackTrace", desc := "()Ljava/lang/Throwable;" } : Jvm.MethodName) ({ cls := "java/lang/Throwable", name := "fillInStackTrace", desc := "()Ljava/lang/Throwable;" } : Jvm.MethodName)) ∈ lw_all := lw_g (lw_at lw_m1 217 rfl) rfl
theorem q355 : (Jvm.Cond.lays "GathersAllFaults$Refused" "java/lang/Throwable" "cause" "Ljava/lang/Throwable;") ∈ lw_all := lw_g (lw_at lw_m1 218 rfl) rfl
theorem q357 : (Jvm.Cond.lays "GathersAllFaults$Refused" "java/lang/Throwable" "stackTrace" "[Ljava/lang/StackTraceElement;") ∈ lw_all := lw_g (lw_at lw_m1 220 rfl) rfl
theorem q359 : (Jvm.Cond.lays "GathersAllFaults$Refused" "java/lang/Throwable" "suppressedExceptions" "Ljava/util/List;") ∈ lw_all := lw_g (lw_at lw_m1 222 rfl) rfl
theorem q361 : (Jvm.Cond.lays "GathersAllFaults$Refused" "java/lang/Throwable" "detailMessage" "Ljava/lang/String;") ∈ lw_all := lw_g (lw_at lw_m1 224 rfl) rfl
theorem q363 : (Jvm.Cond.lays "GathersAllFaults$Refused" "java/lang/Throwable" "backtrace" "Ljava/lang/Object;") ∈ lw_all := lw_g (lw_at lw_m1 226 rfl) rfl
theorem q386 : (Jvm.Cond.instanceMethod ({ cls := "GathersAllFaults$Refused", name := "<init>", desc := "(I)V" } : Jvm.MethodName)) ∈ lw_all := lw_g (lw_at lw_m2 9 rfl) rfl
theorem q387 : (Jvm.Cond.code ({ cls := "GathersAllFaults$Refused", name := "<init>", desc := "(I)V" } : Jvm.MethodName) prog_18_method_1_code (2 : Nat) (Option.none : Option Jvm.ClassFile.FieldType)) ∈ lw_all := lw_g (lw_at lw_m2 10 rfl) rfl
theorem q388 : (Jvm.Cond.methodLinkNest "GathersAllFaults$Refused" (1 : Nat) ({ cls := "GathersAllFaults$Refusal", name := "<init>", desc := "()V" } : Jvm.MethodName) "GathersAllFaults") ∈ lw_tbl := lw_at lw_m2 11 rfl
theorem q398 : (Jvm.Cond.fieldLink "GathersAllFaults$Refused" (7 : Nat) "GathersAllFaults$Refused" "number" "I") ∈ lw_all := lw_g (lw_at lw_m2 21 rfl) rfl
theorem q404 : (Jvm.Cond.laysFinal "GathersAllFaults$Refused" "GathersAllFaults$Refused" "number" "I") ∈ lw_all := lw_g (lw_at lw_m2 27 rfl) rfl
theorem q405 : (Jvm.Cond.soleField "GathersAllFaults$Refused" "number") ∈ lw_all := lw_g (lw_at lw_m2 28 rfl) rfl
theorem q410 : (Jvm.Cond.lays "GathersAllFaults$Refused" "java/lang/Throwable" "depth" "I") ∈ lw_all := lw_g (lw_at lw_m2 33 rfl) rfl
theorem q413 : (Jvm.Cond.superclass "GathersAllFaults$Refused" "GathersAllFaults$Refusal") ∈ lw_all := lw_g (lw_at lw_m2 36 rfl) rfl
theorem q650 : (Jvm.Cond.selects "GathersAllFaults$Refused" ({ cls := "java/lang/Object", name := "hashCode", desc := "()I" } : Jvm.MethodName) ({ cls := "java/lang/Object", name := "hashCode", desc := "()I" } : Jvm.MethodName)) ∈ lw_all := lw_g (lw_at lw_m3 33 rfl) rfl
theorem q715 : (Jvm.Cond.selects "GathersAllFaults$Refused" ({ cls := "java/lang/Object", name := "equals", desc := "(Ljava/lang/Object;)Z" } : Jvm.MethodName) ({ cls := "java/lang/Object", name := "equals", desc := "(Ljava/lang/Object;)Z" } : Jvm.MethodName)) ∈ lw_all := lw_g (lw_at lw_m3 98 rfl) rfl
theorem q764 : (Jvm.Cond.selects "GathersAllFaults$Refused" ({ cls := "java/lang/Object", name := "getClass", desc := "()Ljava/lang/Class;" } : Jvm.MethodName) ({ cls := "java/lang/Object", name := "getClass", desc := "()Ljava/lang/Class;" } : Jvm.MethodName)) ∈ lw_all := lw_g (lw_at lw_m3 147 rfl) rfl
theorem q1935 : (Jvm.Cond.selects "GathersAllFaults$Refused" ({ cls := "GathersAllFaults$Refusal", name := "number", desc := "()I" } : Jvm.MethodName) ({ cls := "GathersAllFaults$Refused", name := "number", desc := "()I" } : Jvm.MethodName)) ∈ lw_all := lw_g (lw_at lw_m8 118 rfl) rfl
theorem q1936 : (Jvm.Cond.instanceMethod ({ cls := "GathersAllFaults$Refused", name := "number", desc := "()I" } : Jvm.MethodName)) ∈ lw_all := lw_g (lw_at lw_m8 119 rfl) rfl
theorem q1937 : (Jvm.Cond.code ({ cls := "GathersAllFaults$Refused", name := "number", desc := "()I" } : Jvm.MethodName) prog_18_method_2_code (1 : Nat) (Option.some Jvm.ClassFile.FieldType.int)) ∈ lw_all := lw_g (lw_at lw_m8 120 rfl) rfl
theorem q2731 : (Jvm.Cond.castable "GathersAllFaults$Refused" "GathersAllFaults$Refusal") ∈ lw_tbl := lw_at lw_m11 194 rfl
theorem q2745 : (Jvm.Cond.castable "GathersAllFaults$Refused" "java/lang/Object") ∈ lw_tbl := lw_at lw_m11 208 rfl
theorem in_X8 : ∀ w ∈ wsX80, w ∈ lw_all := lw_in wsX80 [355, 357, 359, 361, 363, 410, 404] (by decide +kernel) (by decide +kernel)

/-! GathersAllFaults$Reader -/
set_option maxRecDepth 100000
def RX9 : String := "GathersAllFaults$Reader"
def TX9 : u_T := fun k => match k with
  | 0 => ("GathersAllFaults$Reader", "size", "I", true)
  | 1 => ("GathersAllFaults$Reader", "at", "I", false)
  | 2 => ("GathersAllFaults$Reader", "parts", "I", false)
  | 3 => ("GathersAllFaults$Reader", "checks", "I", false)
  | 4 => ("GathersAllFaults$Reader", "agains", "I", false)
  | 5 => ("GathersAllFaults$Reader", "wrongAt", "I", false)
  | _ => ("GathersAllFaults$Reader", "this$0", "LGathersAllFaults;", true)
def tyX9 : Nat → FieldType := fun k => match k with
  | 0 => .int
  | 1 => .int
  | 2 => .int
  | 3 => .int
  | 4 => .int
  | 5 => .int
  | _ => .object "GathersAllFaults"
abbrev wsX90 : List Cond := u_ws RX9 TX9 7
theorem nmX9 : ∀ a, a < 7 → ∀ b, b < 7 → a ≠ b → (TX9 a).2.1 ≠ (TX9 b).2.1 := by decide +kernel
theorem tyX9_ok : ∀ k, k < 7 → parseFieldDescriptor (TX9 k).2.2.1 = some (tyX9 k) := by decide +kernel
abbrev cX9_init : ByteArray := prog_15_method_1_code
def yX9_init : MethodName := ⟨RX9, "<init>", "(LGathersAllFaults;)V"⟩
def dkwX9_init_1 : List UInt8 := [181, 0, 23, 177]
abbrev dktX9_init_1 : List UInt8 := dkwX9_init_1 ++ []
def dkwX9_init_0 : List UInt8 := [42, 43, 181, 0, 3, 42, 183, 0, 9, 42, 42, 180, 0, 3, 180, 0, 15, 181, 0, 19, 42, 18, 22]
abbrev dktX9_init_0 : List UInt8 := dkwX9_init_0 ++ dktX9_init_1
theorem dksX9_init_0 : cX9_init.data.toList.drop 0 = dktX9_init_0 := by decide +kernel
theorem dksX9_init_1 : cX9_init.data.toList.drop 23 = dktX9_init_1 := dk_seg dksX9_init_0 23 rfl rfl
theorem dX9_init_0 : decode cX9_init 0 = .ok (.aload_n 0, 1) := dk_42 (dk_at dksX9_init_0 0 rfl rfl)
theorem dX9_init_1 : decode cX9_init 1 = .ok (.aload_n 1, 1) := dk_43 (dk_at dksX9_init_0 1 rfl rfl)
theorem dX9_init_2 : decode cX9_init 2 = .ok (.putfield 3, 3) := dk_181 0 3 (dk_at dksX9_init_0 2 rfl rfl)
theorem dX9_init_5 : decode cX9_init 5 = .ok (.aload_n 0, 1) := dk_42 (dk_at dksX9_init_0 5 rfl rfl)
theorem dX9_init_6 : decode cX9_init 6 = .ok (.invokespecial 9, 3) := dk_183 0 9 (dk_at dksX9_init_0 6 rfl rfl)
theorem dX9_init_9 : decode cX9_init 9 = .ok (.aload_n 0, 1) := dk_42 (dk_at dksX9_init_0 9 rfl rfl)
theorem dX9_init_10 : decode cX9_init 10 = .ok (.aload_n 0, 1) := dk_42 (dk_at dksX9_init_0 10 rfl rfl)
theorem dX9_init_11 : decode cX9_init 11 = .ok (.getfield 3, 3) := dk_180 0 3 (dk_at dksX9_init_0 11 rfl rfl)
theorem dX9_init_14 : decode cX9_init 14 = .ok (.getfield 15, 3) := dk_180 0 15 (dk_at dksX9_init_0 14 rfl rfl)
theorem dX9_init_17 : decode cX9_init 17 = .ok (.putfield 19, 3) := dk_181 0 19 (dk_at dksX9_init_0 17 rfl rfl)
theorem dX9_init_20 : decode cX9_init 20 = .ok (.aload_n 0, 1) := dk_42 (dk_at dksX9_init_0 20 rfl rfl)
theorem dX9_init_21 : decode cX9_init 21 = .ok (.ldc 22, 2) := dk_18 22 (dk_at dksX9_init_0 21 rfl rfl)
theorem dX9_init_23 : decode cX9_init 23 = .ok (.putfield 23, 3) := dk_181 0 23 (dk_at dksX9_init_1 0 rfl rfl)
theorem dX9_init_26 : decode cX9_init 26 = .ok (.return_, 1) := dk_177 (dk_at dksX9_init_1 3 rfl rfl)
abbrev cX9_value : ByteArray := prog_15_method_9_code
def yX9_value : MethodName := ⟨RX9, "value", "(I)LGathersAllFaults$Value;"⟩
def dkwX9_value_7 : List UInt8 := [160, 0, 11, 42, 27, 182, 0, 76, 167, 0, 8, 42, 27, 182, 0, 80, 176]
abbrev dktX9_value_7 : List UInt8 := dkwX9_value_7 ++ []
def dkwX9_value_6 : List UInt8 := [181, 0, 26, 29, 16, 63, 160, 0, 13, 187, 0, 73, 89, 183, 0, 75, 167, 0, 22, 29, 16, 40]
abbrev dktX9_value_6 : List UInt8 := dkwX9_value_6 ++ dktX9_value_7
def dkwX9_value_5 : List UInt8 := [159, 0, 9, 29, 16, 91, 160, 0, 7, 4, 167, 0, 4, 3, 182, 0, 42, 42, 89, 180, 0, 26, 4, 96]
abbrev dktX9_value_5 : List UInt8 := dkwX9_value_5 ++ dktX9_value_6
def dkwX9_value_4 : List UInt8 := [182, 0, 67, 96, 167, 0, 5, 21, 4, 183, 0, 72, 176, 42, 29, 16, 63, 159, 0, 15, 29, 16, 40]
abbrev dktX9_value_4 : List UInt8 := dkwX9_value_4 ++ dktX9_value_5
def dkwX9_value_3 : List UInt8 := [42, 182, 0, 38, 133, 20, 0, 46, 20, 0, 48, 184, 0, 50, 153, 0, 16, 16, 10, 21, 4, 104, 42]
abbrev dktX9_value_3 : List UInt8 := dkwX9_value_3 ++ dktX9_value_4
def dkwX9_value_2 : List UInt8 := [29, 133, 20, 0, 46, 20, 0, 48, 184, 0, 50, 153, 0, 49, 42, 182, 0, 67, 54, 4, 187, 0, 70, 89]
abbrev dktX9_value_2 : List UInt8 := dkwX9_value_2 ++ dktX9_value_3
def dkwX9_value_1 : List UInt8 := [163, 0, 10, 27, 17, 39, 15, 164, 0, 7, 4, 167, 0, 4, 3, 28, 182, 0, 63, 42, 182, 0, 38, 62]
abbrev dktX9_value_1 : List UInt8 := dkwX9_value_1 ++ dktX9_value_2
def dkwX9_value_0 : List UInt8 := [42, 180, 0, 26, 61, 42, 89, 180, 0, 60, 4, 96, 181, 0, 60, 42, 42, 180, 0, 60, 16, 20]
abbrev dktX9_value_0 : List UInt8 := dkwX9_value_0 ++ dktX9_value_1
theorem dksX9_value_0 : cX9_value.data.toList.drop 0 = dktX9_value_0 := by decide +kernel
theorem dksX9_value_1 : cX9_value.data.toList.drop 22 = dktX9_value_1 := dk_seg dksX9_value_0 22 rfl rfl
theorem dksX9_value_2 : cX9_value.data.toList.drop 46 = dktX9_value_2 := dk_seg dksX9_value_1 24 rfl rfl
theorem dksX9_value_3 : cX9_value.data.toList.drop 70 = dktX9_value_3 := dk_seg dksX9_value_2 24 rfl rfl
theorem dksX9_value_4 : cX9_value.data.toList.drop 93 = dktX9_value_4 := dk_seg dksX9_value_3 23 rfl rfl
theorem dksX9_value_5 : cX9_value.data.toList.drop 116 = dktX9_value_5 := dk_seg dksX9_value_4 23 rfl rfl
theorem dksX9_value_6 : cX9_value.data.toList.drop 140 = dktX9_value_6 := dk_seg dksX9_value_5 24 rfl rfl
theorem dksX9_value_7 : cX9_value.data.toList.drop 162 = dktX9_value_7 := dk_seg dksX9_value_6 22 rfl rfl
theorem dX9_value_0 : decode cX9_value 0 = .ok (.aload_n 0, 1) := dk_42 (dk_at dksX9_value_0 0 rfl rfl)
theorem dX9_value_1 : decode cX9_value 1 = .ok (.getfield 26, 3) := dk_180 0 26 (dk_at dksX9_value_0 1 rfl rfl)
theorem dX9_value_4 : decode cX9_value 4 = .ok (.istore_n 2, 1) := dk_61 (dk_at dksX9_value_0 4 rfl rfl)
theorem dX9_value_5 : decode cX9_value 5 = .ok (.aload_n 0, 1) := dk_42 (dk_at dksX9_value_0 5 rfl rfl)
theorem dX9_value_6 : decode cX9_value 6 = .ok (.dup, 1) := dk_89 (dk_at dksX9_value_0 6 rfl rfl)
theorem dX9_value_7 : decode cX9_value 7 = .ok (.getfield 60, 3) := dk_180 0 60 (dk_at dksX9_value_0 7 rfl rfl)
theorem dX9_value_10 : decode cX9_value 10 = .ok (.iconst 1, 1) := dk_4 (dk_at dksX9_value_0 10 rfl rfl)
theorem dX9_value_11 : decode cX9_value 11 = .ok (.iadd, 1) := dk_96 (dk_at dksX9_value_0 11 rfl rfl)
theorem dX9_value_12 : decode cX9_value 12 = .ok (.putfield 60, 3) := dk_181 0 60 (dk_at dksX9_value_0 12 rfl rfl)
theorem dX9_value_15 : decode cX9_value 15 = .ok (.aload_n 0, 1) := dk_42 (dk_at dksX9_value_0 15 rfl rfl)
theorem dX9_value_16 : decode cX9_value 16 = .ok (.aload_n 0, 1) := dk_42 (dk_at dksX9_value_0 16 rfl rfl)
theorem dX9_value_17 : decode cX9_value 17 = .ok (.getfield 60, 3) := dk_180 0 60 (dk_at dksX9_value_0 17 rfl rfl)
theorem dX9_value_20 : decode cX9_value 20 = .ok (.bipush 20, 2) := dk_16 20 (dk_at dksX9_value_0 20 rfl rfl)
theorem dX9_value_22 : decode cX9_value 22 = .ok (.if_icmp .gt 10, 3) := dk_163 0 10 (dk_at dksX9_value_1 0 rfl rfl)
theorem dX9_value_25 : decode cX9_value 25 = .ok (.iload_n 1, 1) := dk_27 (dk_at dksX9_value_1 3 rfl rfl)
theorem dX9_value_26 : decode cX9_value 26 = .ok (.sipush 9999, 3) := dk_17 39 15 (dk_at dksX9_value_1 4 rfl rfl)
theorem dX9_value_29 : decode cX9_value 29 = .ok (.if_icmp .le 7, 3) := dk_164 0 7 (dk_at dksX9_value_1 7 rfl rfl)
theorem dX9_value_32 : decode cX9_value 32 = .ok (.iconst 1, 1) := dk_4 (dk_at dksX9_value_1 10 rfl rfl)
theorem dX9_value_33 : decode cX9_value 33 = .ok (.goto 4, 3) := dk_167 0 4 (dk_at dksX9_value_1 11 rfl rfl)
theorem dX9_value_36 : decode cX9_value 36 = .ok (.iconst 0, 1) := dk_3 (dk_at dksX9_value_1 14 rfl rfl)
theorem dX9_value_37 : decode cX9_value 37 = .ok (.iload_n 2, 1) := dk_28 (dk_at dksX9_value_1 15 rfl rfl)
theorem dX9_value_38 : decode cX9_value 38 = .ok (.invokevirtual 63, 3) := dk_182 0 63 (dk_at dksX9_value_1 16 rfl rfl)
theorem dX9_value_41 : decode cX9_value 41 = .ok (.aload_n 0, 1) := dk_42 (dk_at dksX9_value_1 19 rfl rfl)
theorem dX9_value_42 : decode cX9_value 42 = .ok (.invokevirtual 38, 3) := dk_182 0 38 (dk_at dksX9_value_1 20 rfl rfl)
theorem dX9_value_45 : decode cX9_value 45 = .ok (.istore_n 3, 1) := dk_62 (dk_at dksX9_value_1 23 rfl rfl)
theorem dX9_value_46 : decode cX9_value 46 = .ok (.iload_n 3, 1) := dk_29 (dk_at dksX9_value_2 0 rfl rfl)
theorem dX9_value_47 : decode cX9_value 47 = .ok (.i2l, 1) := dk_133 (dk_at dksX9_value_2 1 rfl rfl)
theorem dX9_value_48 : decode cX9_value 48 = .ok (.ldc2_w 46, 3) := dk_20 0 46 (dk_at dksX9_value_2 2 rfl rfl)
theorem dX9_value_51 : decode cX9_value 51 = .ok (.ldc2_w 48, 3) := dk_20 0 48 (dk_at dksX9_value_2 5 rfl rfl)
theorem dX9_value_54 : decode cX9_value 54 = .ok (.invokestatic 50, 3) := dk_184 0 50 (dk_at dksX9_value_2 8 rfl rfl)
theorem dX9_value_57 : decode cX9_value 57 = .ok (.ifCond .eq 49, 3) := dk_153 0 49 (dk_at dksX9_value_2 11 rfl rfl)
theorem dX9_value_60 : decode cX9_value 60 = .ok (.aload_n 0, 1) := dk_42 (dk_at dksX9_value_2 14 rfl rfl)
theorem dX9_value_61 : decode cX9_value 61 = .ok (.invokevirtual 67, 3) := dk_182 0 67 (dk_at dksX9_value_2 15 rfl rfl)
theorem dX9_value_64 : decode cX9_value 64 = .ok (.istore 4, 2) := dk_54 4 (dk_at dksX9_value_2 18 rfl rfl)
theorem dX9_value_66 : decode cX9_value 66 = .ok (.new 70, 3) := dk_187 0 70 (dk_at dksX9_value_2 20 rfl rfl)
theorem dX9_value_69 : decode cX9_value 69 = .ok (.dup, 1) := dk_89 (dk_at dksX9_value_2 23 rfl rfl)
theorem dX9_value_70 : decode cX9_value 70 = .ok (.aload_n 0, 1) := dk_42 (dk_at dksX9_value_3 0 rfl rfl)
theorem dX9_value_71 : decode cX9_value 71 = .ok (.invokevirtual 38, 3) := dk_182 0 38 (dk_at dksX9_value_3 1 rfl rfl)
theorem dX9_value_74 : decode cX9_value 74 = .ok (.i2l, 1) := dk_133 (dk_at dksX9_value_3 4 rfl rfl)
theorem dX9_value_75 : decode cX9_value 75 = .ok (.ldc2_w 46, 3) := dk_20 0 46 (dk_at dksX9_value_3 5 rfl rfl)
theorem dX9_value_78 : decode cX9_value 78 = .ok (.ldc2_w 48, 3) := dk_20 0 48 (dk_at dksX9_value_3 8 rfl rfl)
theorem dX9_value_81 : decode cX9_value 81 = .ok (.invokestatic 50, 3) := dk_184 0 50 (dk_at dksX9_value_3 11 rfl rfl)
theorem dX9_value_84 : decode cX9_value 84 = .ok (.ifCond .eq 16, 3) := dk_153 0 16 (dk_at dksX9_value_3 14 rfl rfl)
theorem dX9_value_87 : decode cX9_value 87 = .ok (.bipush 10, 2) := dk_16 10 (dk_at dksX9_value_3 17 rfl rfl)
theorem dX9_value_89 : decode cX9_value 89 = .ok (.iload 4, 2) := dk_21 4 (dk_at dksX9_value_3 19 rfl rfl)
theorem dX9_value_91 : decode cX9_value 91 = .ok (.imul, 1) := dk_104 (dk_at dksX9_value_3 21 rfl rfl)
theorem dX9_value_92 : decode cX9_value 92 = .ok (.aload_n 0, 1) := dk_42 (dk_at dksX9_value_3 22 rfl rfl)
theorem dX9_value_93 : decode cX9_value 93 = .ok (.invokevirtual 67, 3) := dk_182 0 67 (dk_at dksX9_value_4 0 rfl rfl)
theorem dX9_value_96 : decode cX9_value 96 = .ok (.iadd, 1) := dk_96 (dk_at dksX9_value_4 3 rfl rfl)
theorem dX9_value_97 : decode cX9_value 97 = .ok (.goto 5, 3) := dk_167 0 5 (dk_at dksX9_value_4 4 rfl rfl)
theorem dX9_value_100 : decode cX9_value 100 = .ok (.iload 4, 2) := dk_21 4 (dk_at dksX9_value_4 7 rfl rfl)
theorem dX9_value_102 : decode cX9_value 102 = .ok (.invokespecial 72, 3) := dk_183 0 72 (dk_at dksX9_value_4 9 rfl rfl)
theorem dX9_value_105 : decode cX9_value 105 = .ok (.areturn, 1) := dk_176 (dk_at dksX9_value_4 12 rfl rfl)
theorem dX9_value_106 : decode cX9_value 106 = .ok (.aload_n 0, 1) := dk_42 (dk_at dksX9_value_4 13 rfl rfl)
theorem dX9_value_107 : decode cX9_value 107 = .ok (.iload_n 3, 1) := dk_29 (dk_at dksX9_value_4 14 rfl rfl)
theorem dX9_value_108 : decode cX9_value 108 = .ok (.bipush 63, 2) := dk_16 63 (dk_at dksX9_value_4 15 rfl rfl)
theorem dX9_value_110 : decode cX9_value 110 = .ok (.if_icmp .eq 15, 3) := dk_159 0 15 (dk_at dksX9_value_4 17 rfl rfl)
theorem dX9_value_113 : decode cX9_value 113 = .ok (.iload_n 3, 1) := dk_29 (dk_at dksX9_value_4 20 rfl rfl)
theorem dX9_value_114 : decode cX9_value 114 = .ok (.bipush 40, 2) := dk_16 40 (dk_at dksX9_value_4 21 rfl rfl)
theorem dX9_value_116 : decode cX9_value 116 = .ok (.if_icmp .eq 9, 3) := dk_159 0 9 (dk_at dksX9_value_5 0 rfl rfl)
theorem dX9_value_119 : decode cX9_value 119 = .ok (.iload_n 3, 1) := dk_29 (dk_at dksX9_value_5 3 rfl rfl)
theorem dX9_value_120 : decode cX9_value 120 = .ok (.bipush 91, 2) := dk_16 91 (dk_at dksX9_value_5 4 rfl rfl)
theorem dX9_value_122 : decode cX9_value 122 = .ok (.if_icmp .ne 7, 3) := dk_160 0 7 (dk_at dksX9_value_5 6 rfl rfl)
theorem dX9_value_125 : decode cX9_value 125 = .ok (.iconst 1, 1) := dk_4 (dk_at dksX9_value_5 9 rfl rfl)
theorem dX9_value_126 : decode cX9_value 126 = .ok (.goto 4, 3) := dk_167 0 4 (dk_at dksX9_value_5 10 rfl rfl)
theorem dX9_value_129 : decode cX9_value 129 = .ok (.iconst 0, 1) := dk_3 (dk_at dksX9_value_5 13 rfl rfl)
theorem dX9_value_130 : decode cX9_value 130 = .ok (.invokevirtual 42, 3) := dk_182 0 42 (dk_at dksX9_value_5 14 rfl rfl)
theorem dX9_value_133 : decode cX9_value 133 = .ok (.aload_n 0, 1) := dk_42 (dk_at dksX9_value_5 17 rfl rfl)
theorem dX9_value_134 : decode cX9_value 134 = .ok (.dup, 1) := dk_89 (dk_at dksX9_value_5 18 rfl rfl)
theorem dX9_value_135 : decode cX9_value 135 = .ok (.getfield 26, 3) := dk_180 0 26 (dk_at dksX9_value_5 19 rfl rfl)
theorem dX9_value_138 : decode cX9_value 138 = .ok (.iconst 1, 1) := dk_4 (dk_at dksX9_value_5 22 rfl rfl)
theorem dX9_value_139 : decode cX9_value 139 = .ok (.iadd, 1) := dk_96 (dk_at dksX9_value_5 23 rfl rfl)
theorem dX9_value_140 : decode cX9_value 140 = .ok (.putfield 26, 3) := dk_181 0 26 (dk_at dksX9_value_6 0 rfl rfl)
theorem dX9_value_143 : decode cX9_value 143 = .ok (.iload_n 3, 1) := dk_29 (dk_at dksX9_value_6 3 rfl rfl)
theorem dX9_value_144 : decode cX9_value 144 = .ok (.bipush 63, 2) := dk_16 63 (dk_at dksX9_value_6 4 rfl rfl)
theorem dX9_value_146 : decode cX9_value 146 = .ok (.if_icmp .ne 13, 3) := dk_160 0 13 (dk_at dksX9_value_6 6 rfl rfl)
theorem dX9_value_149 : decode cX9_value 149 = .ok (.new 73, 3) := dk_187 0 73 (dk_at dksX9_value_6 9 rfl rfl)
theorem dX9_value_152 : decode cX9_value 152 = .ok (.dup, 1) := dk_89 (dk_at dksX9_value_6 12 rfl rfl)
theorem dX9_value_153 : decode cX9_value 153 = .ok (.invokespecial 75, 3) := dk_183 0 75 (dk_at dksX9_value_6 13 rfl rfl)
theorem dX9_value_156 : decode cX9_value 156 = .ok (.goto 22, 3) := dk_167 0 22 (dk_at dksX9_value_6 16 rfl rfl)
theorem dX9_value_159 : decode cX9_value 159 = .ok (.iload_n 3, 1) := dk_29 (dk_at dksX9_value_6 19 rfl rfl)
theorem dX9_value_160 : decode cX9_value 160 = .ok (.bipush 40, 2) := dk_16 40 (dk_at dksX9_value_6 20 rfl rfl)
theorem dX9_value_162 : decode cX9_value 162 = .ok (.if_icmp .ne 11, 3) := dk_160 0 11 (dk_at dksX9_value_7 0 rfl rfl)
theorem dX9_value_165 : decode cX9_value 165 = .ok (.aload_n 0, 1) := dk_42 (dk_at dksX9_value_7 3 rfl rfl)
theorem dX9_value_166 : decode cX9_value 166 = .ok (.iload_n 1, 1) := dk_27 (dk_at dksX9_value_7 4 rfl rfl)
theorem dX9_value_167 : decode cX9_value 167 = .ok (.invokevirtual 76, 3) := dk_182 0 76 (dk_at dksX9_value_7 5 rfl rfl)
theorem dX9_value_170 : decode cX9_value 170 = .ok (.goto 8, 3) := dk_167 0 8 (dk_at dksX9_value_7 8 rfl rfl)
theorem dX9_value_173 : decode cX9_value 173 = .ok (.aload_n 0, 1) := dk_42 (dk_at dksX9_value_7 11 rfl rfl)
theorem dX9_value_174 : decode cX9_value 174 = .ok (.iload_n 1, 1) := dk_27 (dk_at dksX9_value_7 12 rfl rfl)
theorem dX9_value_175 : decode cX9_value 175 = .ok (.invokevirtual 80, 3) := dk_182 0 80 (dk_at dksX9_value_7 13 rfl rfl)
theorem dX9_value_178 : decode cX9_value 178 = .ok (.areturn, 1) := dk_176 (dk_at dksX9_value_7 16 rfl rfl)
abbrev cX9_wrong : ByteArray := prog_15_method_6_code
def yX9_wrong : MethodName := ⟨RX9, "wrong", "(ZI)V"⟩
def dkwX9_wrong_0 : List UInt8 := [42, 27, 153, 0, 14, 42, 180, 0, 23, 28, 184, 0, 54, 167, 0, 7, 42, 180, 0, 23, 181, 0, 23, 177]
abbrev dktX9_wrong_0 : List UInt8 := dkwX9_wrong_0 ++ []
theorem dksX9_wrong_0 : cX9_wrong.data.toList.drop 0 = dktX9_wrong_0 := by decide +kernel
theorem dX9_wrong_0 : decode cX9_wrong 0 = .ok (.aload_n 0, 1) := dk_42 (dk_at dksX9_wrong_0 0 rfl rfl)
theorem dX9_wrong_1 : decode cX9_wrong 1 = .ok (.iload_n 1, 1) := dk_27 (dk_at dksX9_wrong_0 1 rfl rfl)
theorem dX9_wrong_2 : decode cX9_wrong 2 = .ok (.ifCond .eq 14, 3) := dk_153 0 14 (dk_at dksX9_wrong_0 2 rfl rfl)
theorem dX9_wrong_5 : decode cX9_wrong 5 = .ok (.aload_n 0, 1) := dk_42 (dk_at dksX9_wrong_0 5 rfl rfl)
theorem dX9_wrong_6 : decode cX9_wrong 6 = .ok (.getfield 23, 3) := dk_180 0 23 (dk_at dksX9_wrong_0 6 rfl rfl)
theorem dX9_wrong_9 : decode cX9_wrong 9 = .ok (.iload_n 2, 1) := dk_28 (dk_at dksX9_wrong_0 9 rfl rfl)
theorem dX9_wrong_10 : decode cX9_wrong 10 = .ok (.invokestatic 54, 3) := dk_184 0 54 (dk_at dksX9_wrong_0 10 rfl rfl)
theorem dX9_wrong_13 : decode cX9_wrong 13 = .ok (.goto 7, 3) := dk_167 0 7 (dk_at dksX9_wrong_0 13 rfl rfl)
theorem dX9_wrong_16 : decode cX9_wrong 16 = .ok (.aload_n 0, 1) := dk_42 (dk_at dksX9_wrong_0 16 rfl rfl)
theorem dX9_wrong_17 : decode cX9_wrong 17 = .ok (.getfield 23, 3) := dk_180 0 23 (dk_at dksX9_wrong_0 17 rfl rfl)
theorem dX9_wrong_20 : decode cX9_wrong 20 = .ok (.putfield 23, 3) := dk_181 0 23 (dk_at dksX9_wrong_0 20 rfl rfl)
theorem dX9_wrong_23 : decode cX9_wrong 23 = .ok (.return_, 1) := dk_177 (dk_at dksX9_wrong_0 23 rfl rfl)
abbrev cX9_here : ByteArray := prog_15_method_2_code
def yX9_here : MethodName := ⟨RX9, "here", "()I"⟩
def dkwX9_here_1 : List UInt8 := [167, 0, 4, 2, 172]
abbrev dktX9_here_1 : List UInt8 := dkwX9_here_1 ++ []
def dkwX9_here_0 : List UInt8 := [42, 180, 0, 26, 42, 180, 0, 19, 162, 0, 18, 42, 180, 0, 3, 180, 0, 29, 42, 180, 0, 26, 52]
abbrev dktX9_here_0 : List UInt8 := dkwX9_here_0 ++ dktX9_here_1
theorem dksX9_here_0 : cX9_here.data.toList.drop 0 = dktX9_here_0 := by decide +kernel
theorem dksX9_here_1 : cX9_here.data.toList.drop 23 = dktX9_here_1 := dk_seg dksX9_here_0 23 rfl rfl
theorem dX9_here_0 : decode cX9_here 0 = .ok (.aload_n 0, 1) := dk_42 (dk_at dksX9_here_0 0 rfl rfl)
theorem dX9_here_1 : decode cX9_here 1 = .ok (.getfield 26, 3) := dk_180 0 26 (dk_at dksX9_here_0 1 rfl rfl)
theorem dX9_here_4 : decode cX9_here 4 = .ok (.aload_n 0, 1) := dk_42 (dk_at dksX9_here_0 4 rfl rfl)
theorem dX9_here_5 : decode cX9_here 5 = .ok (.getfield 19, 3) := dk_180 0 19 (dk_at dksX9_here_0 5 rfl rfl)
theorem dX9_here_8 : decode cX9_here 8 = .ok (.if_icmp .ge 18, 3) := dk_162 0 18 (dk_at dksX9_here_0 8 rfl rfl)
theorem dX9_here_11 : decode cX9_here 11 = .ok (.aload_n 0, 1) := dk_42 (dk_at dksX9_here_0 11 rfl rfl)
theorem dX9_here_12 : decode cX9_here 12 = .ok (.getfield 3, 3) := dk_180 0 3 (dk_at dksX9_here_0 12 rfl rfl)
theorem dX9_here_15 : decode cX9_here 15 = .ok (.getfield 29, 3) := dk_180 0 29 (dk_at dksX9_here_0 15 rfl rfl)
theorem dX9_here_18 : decode cX9_here 18 = .ok (.aload_n 0, 1) := dk_42 (dk_at dksX9_here_0 18 rfl rfl)
theorem dX9_here_19 : decode cX9_here 19 = .ok (.getfield 26, 3) := dk_180 0 26 (dk_at dksX9_here_0 19 rfl rfl)
theorem dX9_here_22 : decode cX9_here 22 = .ok (.caload, 1) := dk_52 (dk_at dksX9_here_0 22 rfl rfl)
theorem dX9_here_23 : decode cX9_here 23 = .ok (.goto 4, 3) := dk_167 0 4 (dk_at dksX9_here_1 0 rfl rfl)
theorem dX9_here_26 : decode cX9_here 26 = .ok (.iconst (-1), 1) := dk_2 (dk_at dksX9_here_1 3 rfl rfl)
theorem dX9_here_27 : decode cX9_here 27 = .ok (.ireturn, 1) := dk_172 (dk_at dksX9_here_1 4 rfl rfl)
abbrev cX9_digit : ByteArray := prog_15_method_5_code
def yX9_digit : MethodName := ⟨RX9, "digit", "()I"⟩
def dkwX9_digit_1 : List UInt8 := [96, 181, 0, 26, 42, 180, 0, 3, 180, 0, 29, 42, 180, 0, 26, 4, 100, 52, 16, 48, 100, 172]
abbrev dktX9_digit_1 : List UInt8 := dkwX9_digit_1 ++ []
def dkwX9_digit_0 : List UInt8 := [42, 42, 182, 0, 38, 133, 20, 0, 46, 20, 0, 48, 184, 0, 50, 182, 0, 42, 42, 89, 180, 0, 26, 4]
abbrev dktX9_digit_0 : List UInt8 := dkwX9_digit_0 ++ dktX9_digit_1
theorem dksX9_digit_0 : cX9_digit.data.toList.drop 0 = dktX9_digit_0 := by decide +kernel
theorem dksX9_digit_1 : cX9_digit.data.toList.drop 24 = dktX9_digit_1 := dk_seg dksX9_digit_0 24 rfl rfl
theorem dX9_digit_0 : decode cX9_digit 0 = .ok (.aload_n 0, 1) := dk_42 (dk_at dksX9_digit_0 0 rfl rfl)
theorem dX9_digit_1 : decode cX9_digit 1 = .ok (.aload_n 0, 1) := dk_42 (dk_at dksX9_digit_0 1 rfl rfl)
theorem dX9_digit_2 : decode cX9_digit 2 = .ok (.invokevirtual 38, 3) := dk_182 0 38 (dk_at dksX9_digit_0 2 rfl rfl)
theorem dX9_digit_5 : decode cX9_digit 5 = .ok (.i2l, 1) := dk_133 (dk_at dksX9_digit_0 5 rfl rfl)
theorem dX9_digit_6 : decode cX9_digit 6 = .ok (.ldc2_w 46, 3) := dk_20 0 46 (dk_at dksX9_digit_0 6 rfl rfl)
theorem dX9_digit_9 : decode cX9_digit 9 = .ok (.ldc2_w 48, 3) := dk_20 0 48 (dk_at dksX9_digit_0 9 rfl rfl)
theorem dX9_digit_12 : decode cX9_digit 12 = .ok (.invokestatic 50, 3) := dk_184 0 50 (dk_at dksX9_digit_0 12 rfl rfl)
theorem dX9_digit_15 : decode cX9_digit 15 = .ok (.invokevirtual 42, 3) := dk_182 0 42 (dk_at dksX9_digit_0 15 rfl rfl)
theorem dX9_digit_18 : decode cX9_digit 18 = .ok (.aload_n 0, 1) := dk_42 (dk_at dksX9_digit_0 18 rfl rfl)
theorem dX9_digit_19 : decode cX9_digit 19 = .ok (.dup, 1) := dk_89 (dk_at dksX9_digit_0 19 rfl rfl)
theorem dX9_digit_20 : decode cX9_digit 20 = .ok (.getfield 26, 3) := dk_180 0 26 (dk_at dksX9_digit_0 20 rfl rfl)
theorem dX9_digit_23 : decode cX9_digit 23 = .ok (.iconst 1, 1) := dk_4 (dk_at dksX9_digit_0 23 rfl rfl)
theorem dX9_digit_24 : decode cX9_digit 24 = .ok (.iadd, 1) := dk_96 (dk_at dksX9_digit_1 0 rfl rfl)
theorem dX9_digit_25 : decode cX9_digit 25 = .ok (.putfield 26, 3) := dk_181 0 26 (dk_at dksX9_digit_1 1 rfl rfl)
theorem dX9_digit_28 : decode cX9_digit 28 = .ok (.aload_n 0, 1) := dk_42 (dk_at dksX9_digit_1 4 rfl rfl)
theorem dX9_digit_29 : decode cX9_digit 29 = .ok (.getfield 3, 3) := dk_180 0 3 (dk_at dksX9_digit_1 5 rfl rfl)
theorem dX9_digit_32 : decode cX9_digit 32 = .ok (.getfield 29, 3) := dk_180 0 29 (dk_at dksX9_digit_1 8 rfl rfl)
theorem dX9_digit_35 : decode cX9_digit 35 = .ok (.aload_n 0, 1) := dk_42 (dk_at dksX9_digit_1 11 rfl rfl)
theorem dX9_digit_36 : decode cX9_digit 36 = .ok (.getfield 26, 3) := dk_180 0 26 (dk_at dksX9_digit_1 12 rfl rfl)
theorem dX9_digit_39 : decode cX9_digit 39 = .ok (.iconst 1, 1) := dk_4 (dk_at dksX9_digit_1 15 rfl rfl)
theorem dX9_digit_40 : decode cX9_digit 40 = .ok (.isub, 1) := dk_100 (dk_at dksX9_digit_1 16 rfl rfl)
theorem dX9_digit_41 : decode cX9_digit 41 = .ok (.caload, 1) := dk_52 (dk_at dksX9_digit_1 17 rfl rfl)
theorem dX9_digit_42 : decode cX9_digit 42 = .ok (.bipush 48, 2) := dk_16 48 (dk_at dksX9_digit_1 18 rfl rfl)
theorem dX9_digit_44 : decode cX9_digit 44 = .ok (.isub, 1) := dk_100 (dk_at dksX9_digit_1 20 rfl rfl)
theorem dX9_digit_45 : decode cX9_digit 45 = .ok (.ireturn, 1) := dk_172 (dk_at dksX9_digit_1 21 rfl rfl)
abbrev cX9_mustStand : ByteArray := prog_15_method_3_code
def yX9_mustStand : MethodName := ⟨RX9, "mustStand", "(Z)V"⟩
def dkwX9_mustStand_0 : List UInt8 := [27, 154, 0, 19, 187, 0, 33, 89, 17, 252, 24, 42, 180, 0, 26, 100, 183, 0, 35, 191, 177]
abbrev dktX9_mustStand_0 : List UInt8 := dkwX9_mustStand_0 ++ []
theorem dksX9_mustStand_0 : cX9_mustStand.data.toList.drop 0 = dktX9_mustStand_0 := by decide +kernel
theorem dX9_mustStand_0 : decode cX9_mustStand 0 = .ok (.iload_n 1, 1) := dk_27 (dk_at dksX9_mustStand_0 0 rfl rfl)
theorem dX9_mustStand_1 : decode cX9_mustStand 1 = .ok (.ifCond .ne 19, 3) := dk_154 0 19 (dk_at dksX9_mustStand_0 1 rfl rfl)
theorem dX9_mustStand_4 : decode cX9_mustStand 4 = .ok (.new 33, 3) := dk_187 0 33 (dk_at dksX9_mustStand_0 4 rfl rfl)
theorem dX9_mustStand_7 : decode cX9_mustStand 7 = .ok (.dup, 1) := dk_89 (dk_at dksX9_mustStand_0 7 rfl rfl)
theorem dX9_mustStand_8 : decode cX9_mustStand 8 = .ok (.sipush (-1000), 3) := dk_17 252 24 (dk_at dksX9_mustStand_0 8 rfl rfl)
theorem dX9_mustStand_11 : decode cX9_mustStand 11 = .ok (.aload_n 0, 1) := dk_42 (dk_at dksX9_mustStand_0 11 rfl rfl)
theorem dX9_mustStand_12 : decode cX9_mustStand 12 = .ok (.getfield 26, 3) := dk_180 0 26 (dk_at dksX9_mustStand_0 12 rfl rfl)
theorem dX9_mustStand_15 : decode cX9_mustStand 15 = .ok (.isub, 1) := dk_100 (dk_at dksX9_mustStand_0 15 rfl rfl)
theorem dX9_mustStand_16 : decode cX9_mustStand 16 = .ok (.invokespecial 35, 3) := dk_183 0 35 (dk_at dksX9_mustStand_0 16 rfl rfl)
theorem dX9_mustStand_19 : decode cX9_mustStand 19 = .ok (.athrow, 1) := dk_191 (dk_at dksX9_mustStand_0 19 rfl rfl)
theorem dX9_mustStand_20 : decode cX9_mustStand 20 = .ok (.return_, 1) := dk_177 (dk_at dksX9_mustStand_0 20 rfl rfl)
abbrev cX9_rec : ByteArray := prog_15_method_10_code
def yX9_rec : MethodName := ⟨RX9, "rec", "(I)LGathersAllFaults$Value;"⟩
def dkwX9_rec_3 : List UInt8 := [180, 0, 26, 4, 96, 181, 0, 26, 187, 0, 109, 89, 44, 183, 0, 111, 176]
abbrev dktX9_rec_3 : List UInt8 := dkwX9_rec_3 ++ []
def dkwX9_rec_2 : List UInt8 := [184, 0, 89, 42, 42, 27, 21, 4, 182, 0, 99, 182, 0, 102, 182, 0, 105, 87, 167, 255, 201, 42, 89]
abbrev dktX9_rec_2 : List UInt8 := dkwX9_rec_2 ++ dktX9_rec_3
def dkwX9_rec_1 : List UInt8 := [182, 0, 86, 54, 4, 42, 44, 21, 4, 184, 0, 89, 182, 0, 95, 29, 182, 0, 63, 44, 21, 4]
abbrev dktX9_rec_1 : List UInt8 := dkwX9_rec_1 ++ dktX9_rec_2
def dkwX9_rec_0 : List UInt8 := [187, 0, 83, 89, 183, 0, 85, 77, 42, 182, 0, 38, 16, 41, 159, 0, 52, 42, 180, 0, 26, 62, 42]
abbrev dktX9_rec_0 : List UInt8 := dkwX9_rec_0 ++ dktX9_rec_1
theorem dksX9_rec_0 : cX9_rec.data.toList.drop 0 = dktX9_rec_0 := by decide +kernel
theorem dksX9_rec_1 : cX9_rec.data.toList.drop 23 = dktX9_rec_1 := dk_seg dksX9_rec_0 23 rfl rfl
theorem dksX9_rec_2 : cX9_rec.data.toList.drop 45 = dktX9_rec_2 := dk_seg dksX9_rec_1 22 rfl rfl
theorem dksX9_rec_3 : cX9_rec.data.toList.drop 68 = dktX9_rec_3 := dk_seg dksX9_rec_2 23 rfl rfl
theorem dX9_rec_0 : decode cX9_rec 0 = .ok (.new 83, 3) := dk_187 0 83 (dk_at dksX9_rec_0 0 rfl rfl)
theorem dX9_rec_3 : decode cX9_rec 3 = .ok (.dup, 1) := dk_89 (dk_at dksX9_rec_0 3 rfl rfl)
theorem dX9_rec_4 : decode cX9_rec 4 = .ok (.invokespecial 85, 3) := dk_183 0 85 (dk_at dksX9_rec_0 4 rfl rfl)
theorem dX9_rec_7 : decode cX9_rec 7 = .ok (.astore_n 2, 1) := dk_77 (dk_at dksX9_rec_0 7 rfl rfl)
theorem dX9_rec_8 : decode cX9_rec 8 = .ok (.aload_n 0, 1) := dk_42 (dk_at dksX9_rec_0 8 rfl rfl)
theorem dX9_rec_9 : decode cX9_rec 9 = .ok (.invokevirtual 38, 3) := dk_182 0 38 (dk_at dksX9_rec_0 9 rfl rfl)
theorem dX9_rec_12 : decode cX9_rec 12 = .ok (.bipush 41, 2) := dk_16 41 (dk_at dksX9_rec_0 12 rfl rfl)
theorem dX9_rec_14 : decode cX9_rec 14 = .ok (.if_icmp .eq 52, 3) := dk_159 0 52 (dk_at dksX9_rec_0 14 rfl rfl)
theorem dX9_rec_17 : decode cX9_rec 17 = .ok (.aload_n 0, 1) := dk_42 (dk_at dksX9_rec_0 17 rfl rfl)
theorem dX9_rec_18 : decode cX9_rec 18 = .ok (.getfield 26, 3) := dk_180 0 26 (dk_at dksX9_rec_0 18 rfl rfl)
theorem dX9_rec_21 : decode cX9_rec 21 = .ok (.istore_n 3, 1) := dk_62 (dk_at dksX9_rec_0 21 rfl rfl)
theorem dX9_rec_22 : decode cX9_rec 22 = .ok (.aload_n 0, 1) := dk_42 (dk_at dksX9_rec_0 22 rfl rfl)
theorem dX9_rec_23 : decode cX9_rec 23 = .ok (.invokevirtual 86, 3) := dk_182 0 86 (dk_at dksX9_rec_1 0 rfl rfl)
theorem dX9_rec_26 : decode cX9_rec 26 = .ok (.istore 4, 2) := dk_54 4 (dk_at dksX9_rec_1 3 rfl rfl)
theorem dX9_rec_28 : decode cX9_rec 28 = .ok (.aload_n 0, 1) := dk_42 (dk_at dksX9_rec_1 5 rfl rfl)
theorem dX9_rec_29 : decode cX9_rec 29 = .ok (.aload_n 2, 1) := dk_44 (dk_at dksX9_rec_1 6 rfl rfl)
theorem dX9_rec_30 : decode cX9_rec 30 = .ok (.iload 4, 2) := dk_21 4 (dk_at dksX9_rec_1 7 rfl rfl)
theorem dX9_rec_32 : decode cX9_rec 32 = .ok (.invokestatic 89, 3) := dk_184 0 89 (dk_at dksX9_rec_1 9 rfl rfl)
theorem dX9_rec_35 : decode cX9_rec 35 = .ok (.invokevirtual 95, 3) := dk_182 0 95 (dk_at dksX9_rec_1 12 rfl rfl)
theorem dX9_rec_38 : decode cX9_rec 38 = .ok (.iload_n 3, 1) := dk_29 (dk_at dksX9_rec_1 15 rfl rfl)
theorem dX9_rec_39 : decode cX9_rec 39 = .ok (.invokevirtual 63, 3) := dk_182 0 63 (dk_at dksX9_rec_1 16 rfl rfl)
theorem dX9_rec_42 : decode cX9_rec 42 = .ok (.aload_n 2, 1) := dk_44 (dk_at dksX9_rec_1 19 rfl rfl)
theorem dX9_rec_43 : decode cX9_rec 43 = .ok (.iload 4, 2) := dk_21 4 (dk_at dksX9_rec_1 20 rfl rfl)
theorem dX9_rec_45 : decode cX9_rec 45 = .ok (.invokestatic 89, 3) := dk_184 0 89 (dk_at dksX9_rec_2 0 rfl rfl)
theorem dX9_rec_48 : decode cX9_rec 48 = .ok (.aload_n 0, 1) := dk_42 (dk_at dksX9_rec_2 3 rfl rfl)
theorem dX9_rec_49 : decode cX9_rec 49 = .ok (.aload_n 0, 1) := dk_42 (dk_at dksX9_rec_2 4 rfl rfl)
theorem dX9_rec_50 : decode cX9_rec 50 = .ok (.iload_n 1, 1) := dk_27 (dk_at dksX9_rec_2 5 rfl rfl)
theorem dX9_rec_51 : decode cX9_rec 51 = .ok (.iload 4, 2) := dk_21 4 (dk_at dksX9_rec_2 6 rfl rfl)
theorem dX9_rec_53 : decode cX9_rec 53 = .ok (.invokevirtual 99, 3) := dk_182 0 99 (dk_at dksX9_rec_2 8 rfl rfl)
theorem dX9_rec_56 : decode cX9_rec 56 = .ok (.invokevirtual 102, 3) := dk_182 0 102 (dk_at dksX9_rec_2 11 rfl rfl)
theorem dX9_rec_59 : decode cX9_rec 59 = .ok (.invokevirtual 105, 3) := dk_182 0 105 (dk_at dksX9_rec_2 14 rfl rfl)
theorem dX9_rec_62 : decode cX9_rec 62 = .ok (.pop, 1) := dk_87 (dk_at dksX9_rec_2 17 rfl rfl)
theorem dX9_rec_63 : decode cX9_rec 63 = .ok (.goto (-55), 3) := dk_167 255 201 (dk_at dksX9_rec_2 18 rfl rfl)
theorem dX9_rec_66 : decode cX9_rec 66 = .ok (.aload_n 0, 1) := dk_42 (dk_at dksX9_rec_2 21 rfl rfl)
theorem dX9_rec_67 : decode cX9_rec 67 = .ok (.dup, 1) := dk_89 (dk_at dksX9_rec_2 22 rfl rfl)
theorem dX9_rec_68 : decode cX9_rec 68 = .ok (.getfield 26, 3) := dk_180 0 26 (dk_at dksX9_rec_3 0 rfl rfl)
theorem dX9_rec_71 : decode cX9_rec 71 = .ok (.iconst 1, 1) := dk_4 (dk_at dksX9_rec_3 3 rfl rfl)
theorem dX9_rec_72 : decode cX9_rec 72 = .ok (.iadd, 1) := dk_96 (dk_at dksX9_rec_3 4 rfl rfl)
theorem dX9_rec_73 : decode cX9_rec 73 = .ok (.putfield 26, 3) := dk_181 0 26 (dk_at dksX9_rec_3 5 rfl rfl)
theorem dX9_rec_76 : decode cX9_rec 76 = .ok (.new 109, 3) := dk_187 0 109 (dk_at dksX9_rec_3 8 rfl rfl)
theorem dX9_rec_79 : decode cX9_rec 79 = .ok (.dup, 1) := dk_89 (dk_at dksX9_rec_3 11 rfl rfl)
theorem dX9_rec_80 : decode cX9_rec 80 = .ok (.aload_n 2, 1) := dk_44 (dk_at dksX9_rec_3 12 rfl rfl)
theorem dX9_rec_81 : decode cX9_rec 81 = .ok (.invokespecial 111, 3) := dk_183 0 111 (dk_at dksX9_rec_3 13 rfl rfl)
theorem dX9_rec_84 : decode cX9_rec 84 = .ok (.areturn, 1) := dk_176 (dk_at dksX9_rec_3 16 rfl rfl)
abbrev cX9_name : ByteArray := prog_15_method_12_code
def yX9_name : MethodName := ⟨RX9, "name", "()I"⟩
def dkwX9_name_1 : List UInt8 := [96, 181, 0, 26, 42, 180, 0, 3, 180, 0, 29, 42, 180, 0, 26, 4, 100, 52, 16, 97, 100, 4, 96, 172]
abbrev dktX9_name_1 : List UInt8 := dkwX9_name_1 ++ []
def dkwX9_name_0 : List UInt8 := [42, 42, 182, 0, 38, 133, 20, 0, 130, 20, 0, 132, 184, 0, 50, 182, 0, 42, 42, 89, 180, 0, 26, 4]
abbrev dktX9_name_0 : List UInt8 := dkwX9_name_0 ++ dktX9_name_1
theorem dksX9_name_0 : cX9_name.data.toList.drop 0 = dktX9_name_0 := by decide +kernel
theorem dksX9_name_1 : cX9_name.data.toList.drop 24 = dktX9_name_1 := dk_seg dksX9_name_0 24 rfl rfl
theorem dX9_name_0 : decode cX9_name 0 = .ok (.aload_n 0, 1) := dk_42 (dk_at dksX9_name_0 0 rfl rfl)
theorem dX9_name_1 : decode cX9_name 1 = .ok (.aload_n 0, 1) := dk_42 (dk_at dksX9_name_0 1 rfl rfl)
theorem dX9_name_2 : decode cX9_name 2 = .ok (.invokevirtual 38, 3) := dk_182 0 38 (dk_at dksX9_name_0 2 rfl rfl)
theorem dX9_name_5 : decode cX9_name 5 = .ok (.i2l, 1) := dk_133 (dk_at dksX9_name_0 5 rfl rfl)
theorem dX9_name_6 : decode cX9_name 6 = .ok (.ldc2_w 130, 3) := dk_20 0 130 (dk_at dksX9_name_0 6 rfl rfl)
theorem dX9_name_9 : decode cX9_name 9 = .ok (.ldc2_w 132, 3) := dk_20 0 132 (dk_at dksX9_name_0 9 rfl rfl)
theorem dX9_name_12 : decode cX9_name 12 = .ok (.invokestatic 50, 3) := dk_184 0 50 (dk_at dksX9_name_0 12 rfl rfl)
theorem dX9_name_15 : decode cX9_name 15 = .ok (.invokevirtual 42, 3) := dk_182 0 42 (dk_at dksX9_name_0 15 rfl rfl)
theorem dX9_name_18 : decode cX9_name 18 = .ok (.aload_n 0, 1) := dk_42 (dk_at dksX9_name_0 18 rfl rfl)
theorem dX9_name_19 : decode cX9_name 19 = .ok (.dup, 1) := dk_89 (dk_at dksX9_name_0 19 rfl rfl)
theorem dX9_name_20 : decode cX9_name 20 = .ok (.getfield 26, 3) := dk_180 0 26 (dk_at dksX9_name_0 20 rfl rfl)
theorem dX9_name_23 : decode cX9_name 23 = .ok (.iconst 1, 1) := dk_4 (dk_at dksX9_name_0 23 rfl rfl)
theorem dX9_name_24 : decode cX9_name 24 = .ok (.iadd, 1) := dk_96 (dk_at dksX9_name_1 0 rfl rfl)
theorem dX9_name_25 : decode cX9_name 25 = .ok (.putfield 26, 3) := dk_181 0 26 (dk_at dksX9_name_1 1 rfl rfl)
theorem dX9_name_28 : decode cX9_name 28 = .ok (.aload_n 0, 1) := dk_42 (dk_at dksX9_name_1 4 rfl rfl)
theorem dX9_name_29 : decode cX9_name 29 = .ok (.getfield 3, 3) := dk_180 0 3 (dk_at dksX9_name_1 5 rfl rfl)
theorem dX9_name_32 : decode cX9_name 32 = .ok (.getfield 29, 3) := dk_180 0 29 (dk_at dksX9_name_1 8 rfl rfl)
theorem dX9_name_35 : decode cX9_name 35 = .ok (.aload_n 0, 1) := dk_42 (dk_at dksX9_name_1 11 rfl rfl)
theorem dX9_name_36 : decode cX9_name 36 = .ok (.getfield 26, 3) := dk_180 0 26 (dk_at dksX9_name_1 12 rfl rfl)
theorem dX9_name_39 : decode cX9_name 39 = .ok (.iconst 1, 1) := dk_4 (dk_at dksX9_name_1 15 rfl rfl)
theorem dX9_name_40 : decode cX9_name 40 = .ok (.isub, 1) := dk_100 (dk_at dksX9_name_1 16 rfl rfl)
theorem dX9_name_41 : decode cX9_name 41 = .ok (.caload, 1) := dk_52 (dk_at dksX9_name_1 17 rfl rfl)
theorem dX9_name_42 : decode cX9_name 42 = .ok (.bipush 97, 2) := dk_16 97 (dk_at dksX9_name_1 18 rfl rfl)
theorem dX9_name_44 : decode cX9_name 44 = .ok (.isub, 1) := dk_100 (dk_at dksX9_name_1 20 rfl rfl)
theorem dX9_name_45 : decode cX9_name 45 = .ok (.iconst 1, 1) := dk_4 (dk_at dksX9_name_1 21 rfl rfl)
theorem dX9_name_46 : decode cX9_name 46 = .ok (.iadd, 1) := dk_96 (dk_at dksX9_name_1 22 rfl rfl)
theorem dX9_name_47 : decode cX9_name 47 = .ok (.ireturn, 1) := dk_172 (dk_at dksX9_name_1 23 rfl rfl)
abbrev cX9_under : ByteArray := prog_15_method_8_code
def yX9_under : MethodName := ⟨RX9, "under", "(II)I"⟩
def dkwX9_under_0 : List UInt8 := [27, 17, 39, 15, 164, 0, 7, 27, 167, 0, 9, 16, 10, 27, 104, 28, 96, 172]
abbrev dktX9_under_0 : List UInt8 := dkwX9_under_0 ++ []
theorem dksX9_under_0 : cX9_under.data.toList.drop 0 = dktX9_under_0 := by decide +kernel
theorem dX9_under_0 : decode cX9_under 0 = .ok (.iload_n 1, 1) := dk_27 (dk_at dksX9_under_0 0 rfl rfl)
theorem dX9_under_1 : decode cX9_under 1 = .ok (.sipush 9999, 3) := dk_17 39 15 (dk_at dksX9_under_0 1 rfl rfl)
theorem dX9_under_4 : decode cX9_under 4 = .ok (.if_icmp .le 7, 3) := dk_164 0 7 (dk_at dksX9_under_0 4 rfl rfl)
theorem dX9_under_7 : decode cX9_under 7 = .ok (.iload_n 1, 1) := dk_27 (dk_at dksX9_under_0 7 rfl rfl)
theorem dX9_under_8 : decode cX9_under 8 = .ok (.goto 9, 3) := dk_167 0 9 (dk_at dksX9_under_0 8 rfl rfl)
theorem dX9_under_11 : decode cX9_under 11 = .ok (.bipush 10, 2) := dk_16 10 (dk_at dksX9_under_0 11 rfl rfl)
theorem dX9_under_13 : decode cX9_under 13 = .ok (.iload_n 1, 1) := dk_27 (dk_at dksX9_under_0 13 rfl rfl)
theorem dX9_under_14 : decode cX9_under 14 = .ok (.imul, 1) := dk_104 (dk_at dksX9_under_0 14 rfl rfl)
theorem dX9_under_15 : decode cX9_under 15 = .ok (.iload_n 2, 1) := dk_28 (dk_at dksX9_under_0 15 rfl rfl)
theorem dX9_under_16 : decode cX9_under 16 = .ok (.iadd, 1) := dk_96 (dk_at dksX9_under_0 16 rfl rfl)
theorem dX9_under_17 : decode cX9_under 17 = .ok (.ireturn, 1) := dk_172 (dk_at dksX9_under_0 17 rfl rfl)
abbrev cX9_list : ByteArray := prog_15_method_11_code
def yX9_list : MethodName := ⟨RX9, "list", "(I)LGathersAllFaults$Value;"⟩
def dkwX9_list_5 : List UInt8 := [189, 0, 114, 58, 5, 44, 3, 25, 5, 3, 29, 184, 0, 119, 187, 0, 125, 89, 25, 5, 183, 0, 127, 176]
abbrev dktX9_list_5 : List UInt8 := dkwX9_list_5 ++ []
def dkwX9_list_4 : List UInt8 := [153, 0, 7, 4, 167, 0, 4, 3, 96, 181, 0, 26, 167, 255, 174, 42, 16, 93, 182, 0, 116, 29]
abbrev dktX9_list_4 : List UInt8 := dkwX9_list_4 ++ dktX9_list_5
def dkwX9_list_3 : List UInt8 := [182, 0, 38, 16, 44, 160, 0, 7, 4, 167, 0, 4, 3, 54, 4, 42, 89, 180, 0, 26, 21, 4]
abbrev dktX9_list_3 : List UInt8 := dkwX9_list_3 ++ dktX9_list_4
def dkwX9_list_2 : List UInt8 := [29, 42, 42, 27, 16, 9, 16, 6, 29, 96, 184, 0, 54, 182, 0, 99, 182, 0, 102, 83, 132, 3, 1, 42]
abbrev dktX9_list_2 : List UInt8 := dkwX9_list_2 ++ dktX9_list_3
def dkwX9_list_1 : List UInt8 := [21, 4, 153, 0, 83, 42, 29, 7, 161, 0, 7, 4, 167, 0, 4, 3, 42, 180, 0, 26, 182, 0, 63, 44]
abbrev dktX9_list_1 : List UInt8 := dkwX9_list_1 ++ dktX9_list_2
def dkwX9_list_0 : List UInt8 := [16, 96, 189, 0, 114, 77, 3, 62, 42, 182, 0, 38, 16, 93, 159, 0, 7, 4, 167, 0, 4, 3, 54, 4]
abbrev dktX9_list_0 : List UInt8 := dkwX9_list_0 ++ dktX9_list_1
theorem dksX9_list_0 : cX9_list.data.toList.drop 0 = dktX9_list_0 := by decide +kernel
theorem dksX9_list_1 : cX9_list.data.toList.drop 24 = dktX9_list_1 := dk_seg dksX9_list_0 24 rfl rfl
theorem dksX9_list_2 : cX9_list.data.toList.drop 48 = dktX9_list_2 := dk_seg dksX9_list_1 24 rfl rfl
theorem dksX9_list_3 : cX9_list.data.toList.drop 72 = dktX9_list_3 := dk_seg dksX9_list_2 24 rfl rfl
theorem dksX9_list_4 : cX9_list.data.toList.drop 94 = dktX9_list_4 := dk_seg dksX9_list_3 22 rfl rfl
theorem dksX9_list_5 : cX9_list.data.toList.drop 116 = dktX9_list_5 := dk_seg dksX9_list_4 22 rfl rfl
theorem dX9_list_0 : decode cX9_list 0 = .ok (.bipush 96, 2) := dk_16 96 (dk_at dksX9_list_0 0 rfl rfl)
theorem dX9_list_2 : decode cX9_list 2 = .ok (.anewarray 114, 3) := dk_189 0 114 (dk_at dksX9_list_0 2 rfl rfl)
theorem dX9_list_5 : decode cX9_list 5 = .ok (.astore_n 2, 1) := dk_77 (dk_at dksX9_list_0 5 rfl rfl)
theorem dX9_list_6 : decode cX9_list 6 = .ok (.iconst 0, 1) := dk_3 (dk_at dksX9_list_0 6 rfl rfl)
theorem dX9_list_7 : decode cX9_list 7 = .ok (.istore_n 3, 1) := dk_62 (dk_at dksX9_list_0 7 rfl rfl)
theorem dX9_list_8 : decode cX9_list 8 = .ok (.aload_n 0, 1) := dk_42 (dk_at dksX9_list_0 8 rfl rfl)
theorem dX9_list_9 : decode cX9_list 9 = .ok (.invokevirtual 38, 3) := dk_182 0 38 (dk_at dksX9_list_0 9 rfl rfl)
theorem dX9_list_12 : decode cX9_list 12 = .ok (.bipush 93, 2) := dk_16 93 (dk_at dksX9_list_0 12 rfl rfl)
theorem dX9_list_14 : decode cX9_list 14 = .ok (.if_icmp .eq 7, 3) := dk_159 0 7 (dk_at dksX9_list_0 14 rfl rfl)
theorem dX9_list_17 : decode cX9_list 17 = .ok (.iconst 1, 1) := dk_4 (dk_at dksX9_list_0 17 rfl rfl)
theorem dX9_list_18 : decode cX9_list 18 = .ok (.goto 4, 3) := dk_167 0 4 (dk_at dksX9_list_0 18 rfl rfl)
theorem dX9_list_21 : decode cX9_list 21 = .ok (.iconst 0, 1) := dk_3 (dk_at dksX9_list_0 21 rfl rfl)
theorem dX9_list_22 : decode cX9_list 22 = .ok (.istore 4, 2) := dk_54 4 (dk_at dksX9_list_0 22 rfl rfl)
theorem dX9_list_24 : decode cX9_list 24 = .ok (.iload 4, 2) := dk_21 4 (dk_at dksX9_list_1 0 rfl rfl)
theorem dX9_list_26 : decode cX9_list 26 = .ok (.ifCond .eq 83, 3) := dk_153 0 83 (dk_at dksX9_list_1 2 rfl rfl)
theorem dX9_list_29 : decode cX9_list 29 = .ok (.aload_n 0, 1) := dk_42 (dk_at dksX9_list_1 5 rfl rfl)
theorem dX9_list_30 : decode cX9_list 30 = .ok (.iload_n 3, 1) := dk_29 (dk_at dksX9_list_1 6 rfl rfl)
theorem dX9_list_31 : decode cX9_list 31 = .ok (.iconst 4, 1) := dk_7 (dk_at dksX9_list_1 7 rfl rfl)
theorem dX9_list_32 : decode cX9_list 32 = .ok (.if_icmp .lt 7, 3) := dk_161 0 7 (dk_at dksX9_list_1 8 rfl rfl)
theorem dX9_list_35 : decode cX9_list 35 = .ok (.iconst 1, 1) := dk_4 (dk_at dksX9_list_1 11 rfl rfl)
theorem dX9_list_36 : decode cX9_list 36 = .ok (.goto 4, 3) := dk_167 0 4 (dk_at dksX9_list_1 12 rfl rfl)
theorem dX9_list_39 : decode cX9_list 39 = .ok (.iconst 0, 1) := dk_3 (dk_at dksX9_list_1 15 rfl rfl)
theorem dX9_list_40 : decode cX9_list 40 = .ok (.aload_n 0, 1) := dk_42 (dk_at dksX9_list_1 16 rfl rfl)
theorem dX9_list_41 : decode cX9_list 41 = .ok (.getfield 26, 3) := dk_180 0 26 (dk_at dksX9_list_1 17 rfl rfl)
theorem dX9_list_44 : decode cX9_list 44 = .ok (.invokevirtual 63, 3) := dk_182 0 63 (dk_at dksX9_list_1 20 rfl rfl)
theorem dX9_list_47 : decode cX9_list 47 = .ok (.aload_n 2, 1) := dk_44 (dk_at dksX9_list_1 23 rfl rfl)
theorem dX9_list_48 : decode cX9_list 48 = .ok (.iload_n 3, 1) := dk_29 (dk_at dksX9_list_2 0 rfl rfl)
theorem dX9_list_49 : decode cX9_list 49 = .ok (.aload_n 0, 1) := dk_42 (dk_at dksX9_list_2 1 rfl rfl)
theorem dX9_list_50 : decode cX9_list 50 = .ok (.aload_n 0, 1) := dk_42 (dk_at dksX9_list_2 2 rfl rfl)
theorem dX9_list_51 : decode cX9_list 51 = .ok (.iload_n 1, 1) := dk_27 (dk_at dksX9_list_2 3 rfl rfl)
theorem dX9_list_52 : decode cX9_list 52 = .ok (.bipush 9, 2) := dk_16 9 (dk_at dksX9_list_2 4 rfl rfl)
theorem dX9_list_54 : decode cX9_list 54 = .ok (.bipush 6, 2) := dk_16 6 (dk_at dksX9_list_2 6 rfl rfl)
theorem dX9_list_56 : decode cX9_list 56 = .ok (.iload_n 3, 1) := dk_29 (dk_at dksX9_list_2 8 rfl rfl)
theorem dX9_list_57 : decode cX9_list 57 = .ok (.iadd, 1) := dk_96 (dk_at dksX9_list_2 9 rfl rfl)
theorem dX9_list_58 : decode cX9_list 58 = .ok (.invokestatic 54, 3) := dk_184 0 54 (dk_at dksX9_list_2 10 rfl rfl)
theorem dX9_list_61 : decode cX9_list 61 = .ok (.invokevirtual 99, 3) := dk_182 0 99 (dk_at dksX9_list_2 13 rfl rfl)
theorem dX9_list_64 : decode cX9_list 64 = .ok (.invokevirtual 102, 3) := dk_182 0 102 (dk_at dksX9_list_2 16 rfl rfl)
theorem dX9_list_67 : decode cX9_list 67 = .ok (.aastore, 1) := dk_83 (dk_at dksX9_list_2 19 rfl rfl)
theorem dX9_list_68 : decode cX9_list 68 = .ok (.iinc 3 1, 3) := dk_132 3 1 (dk_at dksX9_list_2 20 rfl rfl)
theorem dX9_list_71 : decode cX9_list 71 = .ok (.aload_n 0, 1) := dk_42 (dk_at dksX9_list_2 23 rfl rfl)
theorem dX9_list_72 : decode cX9_list 72 = .ok (.invokevirtual 38, 3) := dk_182 0 38 (dk_at dksX9_list_3 0 rfl rfl)
theorem dX9_list_75 : decode cX9_list 75 = .ok (.bipush 44, 2) := dk_16 44 (dk_at dksX9_list_3 3 rfl rfl)
theorem dX9_list_77 : decode cX9_list 77 = .ok (.if_icmp .ne 7, 3) := dk_160 0 7 (dk_at dksX9_list_3 5 rfl rfl)
theorem dX9_list_80 : decode cX9_list 80 = .ok (.iconst 1, 1) := dk_4 (dk_at dksX9_list_3 8 rfl rfl)
theorem dX9_list_81 : decode cX9_list 81 = .ok (.goto 4, 3) := dk_167 0 4 (dk_at dksX9_list_3 9 rfl rfl)
theorem dX9_list_84 : decode cX9_list 84 = .ok (.iconst 0, 1) := dk_3 (dk_at dksX9_list_3 12 rfl rfl)
theorem dX9_list_85 : decode cX9_list 85 = .ok (.istore 4, 2) := dk_54 4 (dk_at dksX9_list_3 13 rfl rfl)
theorem dX9_list_87 : decode cX9_list 87 = .ok (.aload_n 0, 1) := dk_42 (dk_at dksX9_list_3 15 rfl rfl)
theorem dX9_list_88 : decode cX9_list 88 = .ok (.dup, 1) := dk_89 (dk_at dksX9_list_3 16 rfl rfl)
theorem dX9_list_89 : decode cX9_list 89 = .ok (.getfield 26, 3) := dk_180 0 26 (dk_at dksX9_list_3 17 rfl rfl)
theorem dX9_list_92 : decode cX9_list 92 = .ok (.iload 4, 2) := dk_21 4 (dk_at dksX9_list_3 20 rfl rfl)
theorem dX9_list_94 : decode cX9_list 94 = .ok (.ifCond .eq 7, 3) := dk_153 0 7 (dk_at dksX9_list_4 0 rfl rfl)
theorem dX9_list_97 : decode cX9_list 97 = .ok (.iconst 1, 1) := dk_4 (dk_at dksX9_list_4 3 rfl rfl)
theorem dX9_list_98 : decode cX9_list 98 = .ok (.goto 4, 3) := dk_167 0 4 (dk_at dksX9_list_4 4 rfl rfl)
theorem dX9_list_101 : decode cX9_list 101 = .ok (.iconst 0, 1) := dk_3 (dk_at dksX9_list_4 7 rfl rfl)
theorem dX9_list_102 : decode cX9_list 102 = .ok (.iadd, 1) := dk_96 (dk_at dksX9_list_4 8 rfl rfl)
theorem dX9_list_103 : decode cX9_list 103 = .ok (.putfield 26, 3) := dk_181 0 26 (dk_at dksX9_list_4 9 rfl rfl)
theorem dX9_list_106 : decode cX9_list 106 = .ok (.goto (-82), 3) := dk_167 255 174 (dk_at dksX9_list_4 12 rfl rfl)
theorem dX9_list_109 : decode cX9_list 109 = .ok (.aload_n 0, 1) := dk_42 (dk_at dksX9_list_4 15 rfl rfl)
theorem dX9_list_110 : decode cX9_list 110 = .ok (.bipush 93, 2) := dk_16 93 (dk_at dksX9_list_4 16 rfl rfl)
theorem dX9_list_112 : decode cX9_list 112 = .ok (.invokevirtual 116, 3) := dk_182 0 116 (dk_at dksX9_list_4 18 rfl rfl)
theorem dX9_list_115 : decode cX9_list 115 = .ok (.iload_n 3, 1) := dk_29 (dk_at dksX9_list_4 21 rfl rfl)
theorem dX9_list_116 : decode cX9_list 116 = .ok (.anewarray 114, 3) := dk_189 0 114 (dk_at dksX9_list_5 0 rfl rfl)
theorem dX9_list_119 : decode cX9_list 119 = .ok (.astore 5, 2) := dk_58 5 (dk_at dksX9_list_5 3 rfl rfl)
theorem dX9_list_121 : decode cX9_list 121 = .ok (.aload_n 2, 1) := dk_44 (dk_at dksX9_list_5 5 rfl rfl)
theorem dX9_list_122 : decode cX9_list 122 = .ok (.iconst 0, 1) := dk_3 (dk_at dksX9_list_5 6 rfl rfl)
theorem dX9_list_123 : decode cX9_list 123 = .ok (.aload 5, 2) := dk_25 5 (dk_at dksX9_list_5 7 rfl rfl)
theorem dX9_list_125 : decode cX9_list 125 = .ok (.iconst 0, 1) := dk_3 (dk_at dksX9_list_5 9 rfl rfl)
theorem dX9_list_126 : decode cX9_list 126 = .ok (.iload_n 3, 1) := dk_29 (dk_at dksX9_list_5 10 rfl rfl)
theorem dX9_list_127 : decode cX9_list 127 = .ok (.invokestatic 119, 3) := dk_184 0 119 (dk_at dksX9_list_5 11 rfl rfl)
theorem dX9_list_130 : decode cX9_list 130 = .ok (.new 125, 3) := dk_187 0 125 (dk_at dksX9_list_5 14 rfl rfl)
theorem dX9_list_133 : decode cX9_list 133 = .ok (.dup, 1) := dk_89 (dk_at dksX9_list_5 17 rfl rfl)
theorem dX9_list_134 : decode cX9_list 134 = .ok (.aload 5, 2) := dk_25 5 (dk_at dksX9_list_5 18 rfl rfl)
theorem dX9_list_136 : decode cX9_list 136 = .ok (.invokespecial 127, 3) := dk_183 0 127 (dk_at dksX9_list_5 20 rfl rfl)
theorem dX9_list_139 : decode cX9_list 139 = .ok (.areturn, 1) := dk_176 (dk_at dksX9_list_5 23 rfl rfl)
abbrev cX9_take : ByteArray := prog_15_method_4_code
def yX9_take : MethodName := ⟨RX9, "take", "(I)V"⟩
def dkwX9_take_1 : List UInt8 := [181, 0, 26, 177]
abbrev dktX9_take_1 : List UInt8 := dkwX9_take_1 ++ []
def dkwX9_take_0 : List UInt8 := [42, 42, 182, 0, 38, 27, 160, 0, 7, 4, 167, 0, 4, 3, 182, 0, 42, 42, 89, 180, 0, 26, 4, 96]
abbrev dktX9_take_0 : List UInt8 := dkwX9_take_0 ++ dktX9_take_1
theorem dksX9_take_0 : cX9_take.data.toList.drop 0 = dktX9_take_0 := by decide +kernel
theorem dksX9_take_1 : cX9_take.data.toList.drop 24 = dktX9_take_1 := dk_seg dksX9_take_0 24 rfl rfl
theorem dX9_take_0 : decode cX9_take 0 = .ok (.aload_n 0, 1) := dk_42 (dk_at dksX9_take_0 0 rfl rfl)
theorem dX9_take_1 : decode cX9_take 1 = .ok (.aload_n 0, 1) := dk_42 (dk_at dksX9_take_0 1 rfl rfl)
theorem dX9_take_2 : decode cX9_take 2 = .ok (.invokevirtual 38, 3) := dk_182 0 38 (dk_at dksX9_take_0 2 rfl rfl)
theorem dX9_take_5 : decode cX9_take 5 = .ok (.iload_n 1, 1) := dk_27 (dk_at dksX9_take_0 5 rfl rfl)
theorem dX9_take_6 : decode cX9_take 6 = .ok (.if_icmp .ne 7, 3) := dk_160 0 7 (dk_at dksX9_take_0 6 rfl rfl)
theorem dX9_take_9 : decode cX9_take 9 = .ok (.iconst 1, 1) := dk_4 (dk_at dksX9_take_0 9 rfl rfl)
theorem dX9_take_10 : decode cX9_take 10 = .ok (.goto 4, 3) := dk_167 0 4 (dk_at dksX9_take_0 10 rfl rfl)
theorem dX9_take_13 : decode cX9_take 13 = .ok (.iconst 0, 1) := dk_3 (dk_at dksX9_take_0 13 rfl rfl)
theorem dX9_take_14 : decode cX9_take 14 = .ok (.invokevirtual 42, 3) := dk_182 0 42 (dk_at dksX9_take_0 14 rfl rfl)
theorem dX9_take_17 : decode cX9_take 17 = .ok (.aload_n 0, 1) := dk_42 (dk_at dksX9_take_0 17 rfl rfl)
theorem dX9_take_18 : decode cX9_take 18 = .ok (.dup, 1) := dk_89 (dk_at dksX9_take_0 18 rfl rfl)
theorem dX9_take_19 : decode cX9_take 19 = .ok (.getfield 26, 3) := dk_180 0 26 (dk_at dksX9_take_0 19 rfl rfl)
theorem dX9_take_22 : decode cX9_take 22 = .ok (.iconst 1, 1) := dk_4 (dk_at dksX9_take_0 22 rfl rfl)
theorem dX9_take_23 : decode cX9_take 23 = .ok (.iadd, 1) := dk_96 (dk_at dksX9_take_0 23 rfl rfl)
theorem dX9_take_24 : decode cX9_take 24 = .ok (.putfield 26, 3) := dk_181 0 26 (dk_at dksX9_take_1 0 rfl rfl)
theorem dX9_take_27 : decode cX9_take 27 = .ok (.return_, 1) := dk_177 (dk_at dksX9_take_1 3 rfl rfl)
abbrev cX9_end : ByteArray := prog_15_method_7_code
def yX9_end : MethodName := ⟨RX9, "end", "()V"⟩
def dkwX9_end_1 : List UInt8 := [18, 22, 162, 0, 19, 187, 0, 33, 89, 17, 248, 48, 42, 180, 0, 23, 100, 183, 0, 35, 191, 177]
abbrev dktX9_end_1 : List UInt8 := dkwX9_end_1 ++ []
def dkwX9_end_0 : List UInt8 := [42, 42, 180, 0, 26, 42, 180, 0, 19, 160, 0, 7, 4, 167, 0, 4, 3, 182, 0, 42, 42, 180, 0, 23]
abbrev dktX9_end_0 : List UInt8 := dkwX9_end_0 ++ dktX9_end_1
theorem dksX9_end_0 : cX9_end.data.toList.drop 0 = dktX9_end_0 := by decide +kernel
theorem dksX9_end_1 : cX9_end.data.toList.drop 24 = dktX9_end_1 := dk_seg dksX9_end_0 24 rfl rfl
theorem dX9_end_0 : decode cX9_end 0 = .ok (.aload_n 0, 1) := dk_42 (dk_at dksX9_end_0 0 rfl rfl)
theorem dX9_end_1 : decode cX9_end 1 = .ok (.aload_n 0, 1) := dk_42 (dk_at dksX9_end_0 1 rfl rfl)
theorem dX9_end_2 : decode cX9_end 2 = .ok (.getfield 26, 3) := dk_180 0 26 (dk_at dksX9_end_0 2 rfl rfl)
theorem dX9_end_5 : decode cX9_end 5 = .ok (.aload_n 0, 1) := dk_42 (dk_at dksX9_end_0 5 rfl rfl)
theorem dX9_end_6 : decode cX9_end 6 = .ok (.getfield 19, 3) := dk_180 0 19 (dk_at dksX9_end_0 6 rfl rfl)
theorem dX9_end_9 : decode cX9_end 9 = .ok (.if_icmp .ne 7, 3) := dk_160 0 7 (dk_at dksX9_end_0 9 rfl rfl)
theorem dX9_end_12 : decode cX9_end 12 = .ok (.iconst 1, 1) := dk_4 (dk_at dksX9_end_0 12 rfl rfl)
theorem dX9_end_13 : decode cX9_end 13 = .ok (.goto 4, 3) := dk_167 0 4 (dk_at dksX9_end_0 13 rfl rfl)
theorem dX9_end_16 : decode cX9_end 16 = .ok (.iconst 0, 1) := dk_3 (dk_at dksX9_end_0 16 rfl rfl)
theorem dX9_end_17 : decode cX9_end 17 = .ok (.invokevirtual 42, 3) := dk_182 0 42 (dk_at dksX9_end_0 17 rfl rfl)
theorem dX9_end_20 : decode cX9_end 20 = .ok (.aload_n 0, 1) := dk_42 (dk_at dksX9_end_0 20 rfl rfl)
theorem dX9_end_21 : decode cX9_end 21 = .ok (.getfield 23, 3) := dk_180 0 23 (dk_at dksX9_end_0 21 rfl rfl)
theorem dX9_end_24 : decode cX9_end 24 = .ok (.ldc 22, 2) := dk_18 22 (dk_at dksX9_end_1 0 rfl rfl)
theorem dX9_end_26 : decode cX9_end 26 = .ok (.if_icmp .ge 19, 3) := dk_162 0 19 (dk_at dksX9_end_1 2 rfl rfl)
theorem dX9_end_29 : decode cX9_end 29 = .ok (.new 33, 3) := dk_187 0 33 (dk_at dksX9_end_1 5 rfl rfl)
theorem dX9_end_32 : decode cX9_end 32 = .ok (.dup, 1) := dk_89 (dk_at dksX9_end_1 8 rfl rfl)
theorem dX9_end_33 : decode cX9_end 33 = .ok (.sipush (-2000), 3) := dk_17 248 48 (dk_at dksX9_end_1 9 rfl rfl)
theorem dX9_end_36 : decode cX9_end 36 = .ok (.aload_n 0, 1) := dk_42 (dk_at dksX9_end_1 12 rfl rfl)
theorem dX9_end_37 : decode cX9_end 37 = .ok (.getfield 23, 3) := dk_180 0 23 (dk_at dksX9_end_1 13 rfl rfl)
theorem dX9_end_40 : decode cX9_end 40 = .ok (.isub, 1) := dk_100 (dk_at dksX9_end_1 16 rfl rfl)
theorem dX9_end_41 : decode cX9_end 41 = .ok (.invokespecial 35, 3) := dk_183 0 35 (dk_at dksX9_end_1 17 rfl rfl)
theorem dX9_end_44 : decode cX9_end 44 = .ok (.athrow, 1) := dk_191 (dk_at dksX9_end_1 20 rfl rfl)
theorem dX9_end_45 : decode cX9_end 45 = .ok (.return_, 1) := dk_177 (dk_at dksX9_end_1 21 rfl rfl)
abbrev cX9_check : ByteArray := prog_15_method_14_code
def yX9_check : MethodName := ⟨RX9, "check", "(LGathersAllFaults$Compiled;Z)LGathersAllFaults$Look;"⟩
def dkwX9_check_14 : List UInt8 := [182, 0, 63, 43, 182, 0, 171, 176, 186, 0, 177, 0, 0, 176]
abbrev dktX9_check_14 : List UInt8 := dkwX9_check_14 ++ []
def dkwX9_check_13 : List UInt8 := [96, 181, 0, 168, 42, 28, 153, 0, 11, 42, 180, 0, 168, 6, 164, 0, 7, 4, 167, 0, 4, 3, 29]
abbrev dktX9_check_13 : List UInt8 := dkwX9_check_13 ++ dktX9_check_14
def dkwX9_check_12 : List UInt8 := [28, 182, 0, 144, 58, 9, 25, 9, 42, 43, 28, 182, 0, 144, 184, 0, 164, 176, 42, 89, 180, 0, 168, 4]
abbrev dktX9_check_12 : List UInt8 := dkwX9_check_12 ++ dktX9_check_13
def dkwX9_check_11 : List UInt8 := [21, 8, 42, 43, 4, 182, 0, 144, 184, 0, 156, 176, 42, 43, 28, 182, 0, 144, 184, 0, 160, 176, 42, 43]
abbrev dktX9_check_11 : List UInt8 := dkwX9_check_11 ++ dktX9_check_12
def dkwX9_check_10 : List UInt8 := [182, 0, 67, 54, 8, 42, 21, 7, 21, 8, 164, 0, 7, 4, 167, 0, 4, 3, 29, 182, 0, 63, 21, 7]
abbrev dktX9_check_10 : List UInt8 := dkwX9_check_10 ++ dktX9_check_11
def dkwX9_check_9 : List UInt8 := [3, 42, 43, 28, 182, 0, 144, 184, 0, 148, 176, 42, 43, 182, 0, 152, 176, 42, 182, 0, 67, 54, 7, 42]
abbrev dktX9_check_9 : List UInt8 := dkwX9_check_9 ++ dktX9_check_10
def dkwX9_check_8 : List UInt8 := [3, 29, 182, 0, 63, 21, 5, 21, 6, 184, 0, 140, 176, 21, 4, 16, 33, 160, 0, 7, 4, 167, 0, 4]
abbrev dktX9_check_8 : List UInt8 := dkwX9_check_8 ++ dktX9_check_9
def dkwX9_check_7 : List UInt8 := [42, 182, 0, 137, 54, 5, 42, 182, 0, 137, 54, 6, 42, 21, 5, 21, 6, 164, 0, 7, 4, 167, 0, 4]
abbrev dktX9_check_7 : List UInt8 := dkwX9_check_7 ++ dktX9_check_8
def dkwX9_check_6 : List UInt8 := [171, 0, 0, 0, 0, 0, 0, 251, 0, 0, 0, 8, 0, 0, 0, 33, 0, 0, 0, 113, 0, 0, 0, 35, 0, 0, 0, 76, 0, 0, 0, 38, 0, 0, 0, 184, 0, 0, 0, 47, 0, 0, 0, 194, 0, 0, 0, 64, 0, 0, 0, 141, 0, 0, 0, 94, 0, 0, 0, 214, 0, 0, 0, 123, 0, 0, 0, 135, 0, 0, 0, 126, 0, 0, 0, 113]
abbrev dktX9_check_6 : List UInt8 := dkwX9_check_6 ++ dktX9_check_7
def dkwX9_check_5 : List UInt8 := [180, 0, 26, 4, 96, 181, 0, 26, 21, 4]
abbrev dktX9_check_5 : List UInt8 := dkwX9_check_5 ++ dktX9_check_6
def dkwX9_check_4 : List UInt8 := [16, 47, 159, 0, 10, 21, 4, 16, 94, 160, 0, 7, 4, 167, 0, 4, 3, 182, 0, 42, 42, 89]
abbrev dktX9_check_4 : List UInt8 := dkwX9_check_4 ++ dktX9_check_5
def dkwX9_check_3 : List UInt8 := [21, 4, 16, 123, 159, 0, 31, 21, 4, 16, 64, 159, 0, 24, 21, 4, 16, 38, 159, 0, 17, 21, 4]
abbrev dktX9_check_3 : List UInt8 := dkwX9_check_3 ++ dktX9_check_4
def dkwX9_check_2 : List UInt8 := [159, 0, 59, 21, 4, 16, 35, 159, 0, 52, 21, 4, 16, 33, 159, 0, 45, 21, 4, 16, 126, 159, 0, 38]
abbrev dktX9_check_2 : List UInt8 := dkwX9_check_2 ++ dktX9_check_3
def dkwX9_check_1 : List UInt8 := [164, 0, 7, 4, 167, 0, 4, 3, 29, 182, 0, 63, 42, 182, 0, 38, 54, 4, 42, 21, 4, 16, 42]
abbrev dktX9_check_1 : List UInt8 := dkwX9_check_1 ++ dktX9_check_2
def dkwX9_check_0 : List UInt8 := [42, 180, 0, 26, 62, 42, 89, 180, 0, 134, 4, 96, 181, 0, 134, 42, 42, 180, 0, 134, 16, 24]
abbrev dktX9_check_0 : List UInt8 := dkwX9_check_0 ++ dktX9_check_1
theorem dksX9_check_0 : cX9_check.data.toList.drop 0 = dktX9_check_0 := by decide +kernel
theorem dksX9_check_1 : cX9_check.data.toList.drop 22 = dktX9_check_1 := dk_seg dksX9_check_0 22 rfl rfl
theorem dksX9_check_2 : cX9_check.data.toList.drop 45 = dktX9_check_2 := dk_seg dksX9_check_1 23 rfl rfl
theorem dksX9_check_3 : cX9_check.data.toList.drop 69 = dktX9_check_3 := dk_seg dksX9_check_2 24 rfl rfl
theorem dksX9_check_4 : cX9_check.data.toList.drop 92 = dktX9_check_4 := dk_seg dksX9_check_3 23 rfl rfl
theorem dksX9_check_5 : cX9_check.data.toList.drop 114 = dktX9_check_5 := dk_seg dksX9_check_4 22 rfl rfl
theorem dksX9_check_6 : cX9_check.data.toList.drop 124 = dktX9_check_6 := dk_seg dksX9_check_5 10 rfl rfl
theorem dksX9_check_7 : cX9_check.data.toList.drop 200 = dktX9_check_7 := dk_seg dksX9_check_6 76 rfl rfl
theorem dksX9_check_8 : cX9_check.data.toList.drop 224 = dktX9_check_8 := dk_seg dksX9_check_7 24 rfl rfl
theorem dksX9_check_9 : cX9_check.data.toList.drop 248 = dktX9_check_9 := dk_seg dksX9_check_8 24 rfl rfl
theorem dksX9_check_10 : cX9_check.data.toList.drop 272 = dktX9_check_10 := dk_seg dksX9_check_9 24 rfl rfl
theorem dksX9_check_11 : cX9_check.data.toList.drop 296 = dktX9_check_11 := dk_seg dksX9_check_10 24 rfl rfl
theorem dksX9_check_12 : cX9_check.data.toList.drop 320 = dktX9_check_12 := dk_seg dksX9_check_11 24 rfl rfl
theorem dksX9_check_13 : cX9_check.data.toList.drop 344 = dktX9_check_13 := dk_seg dksX9_check_12 24 rfl rfl
theorem dksX9_check_14 : cX9_check.data.toList.drop 367 = dktX9_check_14 := dk_seg dksX9_check_13 23 rfl rfl
theorem dX9_check_0 : decode cX9_check 0 = .ok (.aload_n 0, 1) := dk_42 (dk_at dksX9_check_0 0 rfl rfl)
theorem dX9_check_1 : decode cX9_check 1 = .ok (.getfield 26, 3) := dk_180 0 26 (dk_at dksX9_check_0 1 rfl rfl)
theorem dX9_check_4 : decode cX9_check 4 = .ok (.istore_n 3, 1) := dk_62 (dk_at dksX9_check_0 4 rfl rfl)
theorem dX9_check_5 : decode cX9_check 5 = .ok (.aload_n 0, 1) := dk_42 (dk_at dksX9_check_0 5 rfl rfl)
theorem dX9_check_6 : decode cX9_check 6 = .ok (.dup, 1) := dk_89 (dk_at dksX9_check_0 6 rfl rfl)
theorem dX9_check_7 : decode cX9_check 7 = .ok (.getfield 134, 3) := dk_180 0 134 (dk_at dksX9_check_0 7 rfl rfl)
theorem dX9_check_10 : decode cX9_check 10 = .ok (.iconst 1, 1) := dk_4 (dk_at dksX9_check_0 10 rfl rfl)
theorem dX9_check_11 : decode cX9_check 11 = .ok (.iadd, 1) := dk_96 (dk_at dksX9_check_0 11 rfl rfl)
theorem dX9_check_12 : decode cX9_check 12 = .ok (.putfield 134, 3) := dk_181 0 134 (dk_at dksX9_check_0 12 rfl rfl)
theorem dX9_check_15 : decode cX9_check 15 = .ok (.aload_n 0, 1) := dk_42 (dk_at dksX9_check_0 15 rfl rfl)
theorem dX9_check_16 : decode cX9_check 16 = .ok (.aload_n 0, 1) := dk_42 (dk_at dksX9_check_0 16 rfl rfl)
theorem dX9_check_17 : decode cX9_check 17 = .ok (.getfield 134, 3) := dk_180 0 134 (dk_at dksX9_check_0 17 rfl rfl)
theorem dX9_check_20 : decode cX9_check 20 = .ok (.bipush 24, 2) := dk_16 24 (dk_at dksX9_check_0 20 rfl rfl)
theorem dX9_check_22 : decode cX9_check 22 = .ok (.if_icmp .le 7, 3) := dk_164 0 7 (dk_at dksX9_check_1 0 rfl rfl)
theorem dX9_check_25 : decode cX9_check 25 = .ok (.iconst 1, 1) := dk_4 (dk_at dksX9_check_1 3 rfl rfl)
theorem dX9_check_26 : decode cX9_check 26 = .ok (.goto 4, 3) := dk_167 0 4 (dk_at dksX9_check_1 4 rfl rfl)
theorem dX9_check_29 : decode cX9_check 29 = .ok (.iconst 0, 1) := dk_3 (dk_at dksX9_check_1 7 rfl rfl)
theorem dX9_check_30 : decode cX9_check 30 = .ok (.iload_n 3, 1) := dk_29 (dk_at dksX9_check_1 8 rfl rfl)
theorem dX9_check_31 : decode cX9_check 31 = .ok (.invokevirtual 63, 3) := dk_182 0 63 (dk_at dksX9_check_1 9 rfl rfl)
theorem dX9_check_34 : decode cX9_check 34 = .ok (.aload_n 0, 1) := dk_42 (dk_at dksX9_check_1 12 rfl rfl)
theorem dX9_check_35 : decode cX9_check 35 = .ok (.invokevirtual 38, 3) := dk_182 0 38 (dk_at dksX9_check_1 13 rfl rfl)
theorem dX9_check_38 : decode cX9_check 38 = .ok (.istore 4, 2) := dk_54 4 (dk_at dksX9_check_1 16 rfl rfl)
theorem dX9_check_40 : decode cX9_check 40 = .ok (.aload_n 0, 1) := dk_42 (dk_at dksX9_check_1 18 rfl rfl)
theorem dX9_check_41 : decode cX9_check 41 = .ok (.iload 4, 2) := dk_21 4 (dk_at dksX9_check_1 19 rfl rfl)
theorem dX9_check_43 : decode cX9_check 43 = .ok (.bipush 42, 2) := dk_16 42 (dk_at dksX9_check_1 21 rfl rfl)
theorem dX9_check_45 : decode cX9_check 45 = .ok (.if_icmp .eq 59, 3) := dk_159 0 59 (dk_at dksX9_check_2 0 rfl rfl)
theorem dX9_check_48 : decode cX9_check 48 = .ok (.iload 4, 2) := dk_21 4 (dk_at dksX9_check_2 3 rfl rfl)
theorem dX9_check_50 : decode cX9_check 50 = .ok (.bipush 35, 2) := dk_16 35 (dk_at dksX9_check_2 5 rfl rfl)
theorem dX9_check_52 : decode cX9_check 52 = .ok (.if_icmp .eq 52, 3) := dk_159 0 52 (dk_at dksX9_check_2 7 rfl rfl)
theorem dX9_check_55 : decode cX9_check 55 = .ok (.iload 4, 2) := dk_21 4 (dk_at dksX9_check_2 10 rfl rfl)
theorem dX9_check_57 : decode cX9_check 57 = .ok (.bipush 33, 2) := dk_16 33 (dk_at dksX9_check_2 12 rfl rfl)
theorem dX9_check_59 : decode cX9_check 59 = .ok (.if_icmp .eq 45, 3) := dk_159 0 45 (dk_at dksX9_check_2 14 rfl rfl)
theorem dX9_check_62 : decode cX9_check 62 = .ok (.iload 4, 2) := dk_21 4 (dk_at dksX9_check_2 17 rfl rfl)
theorem dX9_check_64 : decode cX9_check 64 = .ok (.bipush 126, 2) := dk_16 126 (dk_at dksX9_check_2 19 rfl rfl)
theorem dX9_check_66 : decode cX9_check 66 = .ok (.if_icmp .eq 38, 3) := dk_159 0 38 (dk_at dksX9_check_2 21 rfl rfl)
theorem dX9_check_69 : decode cX9_check 69 = .ok (.iload 4, 2) := dk_21 4 (dk_at dksX9_check_3 0 rfl rfl)
theorem dX9_check_71 : decode cX9_check 71 = .ok (.bipush 123, 2) := dk_16 123 (dk_at dksX9_check_3 2 rfl rfl)
theorem dX9_check_73 : decode cX9_check 73 = .ok (.if_icmp .eq 31, 3) := dk_159 0 31 (dk_at dksX9_check_3 4 rfl rfl)
theorem dX9_check_76 : decode cX9_check 76 = .ok (.iload 4, 2) := dk_21 4 (dk_at dksX9_check_3 7 rfl rfl)
theorem dX9_check_78 : decode cX9_check 78 = .ok (.bipush 64, 2) := dk_16 64 (dk_at dksX9_check_3 9 rfl rfl)
theorem dX9_check_80 : decode cX9_check 80 = .ok (.if_icmp .eq 24, 3) := dk_159 0 24 (dk_at dksX9_check_3 11 rfl rfl)
theorem dX9_check_83 : decode cX9_check 83 = .ok (.iload 4, 2) := dk_21 4 (dk_at dksX9_check_3 14 rfl rfl)
theorem dX9_check_85 : decode cX9_check 85 = .ok (.bipush 38, 2) := dk_16 38 (dk_at dksX9_check_3 16 rfl rfl)
theorem dX9_check_87 : decode cX9_check 87 = .ok (.if_icmp .eq 17, 3) := dk_159 0 17 (dk_at dksX9_check_3 18 rfl rfl)
theorem dX9_check_90 : decode cX9_check 90 = .ok (.iload 4, 2) := dk_21 4 (dk_at dksX9_check_3 21 rfl rfl)
theorem dX9_check_92 : decode cX9_check 92 = .ok (.bipush 47, 2) := dk_16 47 (dk_at dksX9_check_4 0 rfl rfl)
theorem dX9_check_94 : decode cX9_check 94 = .ok (.if_icmp .eq 10, 3) := dk_159 0 10 (dk_at dksX9_check_4 2 rfl rfl)
theorem dX9_check_97 : decode cX9_check 97 = .ok (.iload 4, 2) := dk_21 4 (dk_at dksX9_check_4 5 rfl rfl)
theorem dX9_check_99 : decode cX9_check 99 = .ok (.bipush 94, 2) := dk_16 94 (dk_at dksX9_check_4 7 rfl rfl)
theorem dX9_check_101 : decode cX9_check 101 = .ok (.if_icmp .ne 7, 3) := dk_160 0 7 (dk_at dksX9_check_4 9 rfl rfl)
theorem dX9_check_104 : decode cX9_check 104 = .ok (.iconst 1, 1) := dk_4 (dk_at dksX9_check_4 12 rfl rfl)
theorem dX9_check_105 : decode cX9_check 105 = .ok (.goto 4, 3) := dk_167 0 4 (dk_at dksX9_check_4 13 rfl rfl)
theorem dX9_check_108 : decode cX9_check 108 = .ok (.iconst 0, 1) := dk_3 (dk_at dksX9_check_4 16 rfl rfl)
theorem dX9_check_109 : decode cX9_check 109 = .ok (.invokevirtual 42, 3) := dk_182 0 42 (dk_at dksX9_check_4 17 rfl rfl)
theorem dX9_check_112 : decode cX9_check 112 = .ok (.aload_n 0, 1) := dk_42 (dk_at dksX9_check_4 20 rfl rfl)
theorem dX9_check_113 : decode cX9_check 113 = .ok (.dup, 1) := dk_89 (dk_at dksX9_check_4 21 rfl rfl)
theorem dX9_check_114 : decode cX9_check 114 = .ok (.getfield 26, 3) := dk_180 0 26 (dk_at dksX9_check_5 0 rfl rfl)
theorem dX9_check_117 : decode cX9_check 117 = .ok (.iconst 1, 1) := dk_4 (dk_at dksX9_check_5 3 rfl rfl)
theorem dX9_check_118 : decode cX9_check 118 = .ok (.iadd, 1) := dk_96 (dk_at dksX9_check_5 4 rfl rfl)
theorem dX9_check_119 : decode cX9_check 119 = .ok (.putfield 26, 3) := dk_181 0 26 (dk_at dksX9_check_5 5 rfl rfl)
theorem dX9_check_122 : decode cX9_check 122 = .ok (.iload 4, 2) := dk_21 4 (dk_at dksX9_check_5 8 rfl rfl)
theorem dX9_check_124 : decode cX9_check 124 = .ok (.lookupswitch 251 #[(33, 113), (35, 76), (38, 184), (47, 194), (64, 141), (94, 214), (123, 135), (126, 113)], 76) := by decide +kernel
theorem dX9_check_200 : decode cX9_check 200 = .ok (.aload_n 0, 1) := dk_42 (dk_at dksX9_check_7 0 rfl rfl)
theorem dX9_check_201 : decode cX9_check 201 = .ok (.invokevirtual 137, 3) := dk_182 0 137 (dk_at dksX9_check_7 1 rfl rfl)
theorem dX9_check_204 : decode cX9_check 204 = .ok (.istore 5, 2) := dk_54 5 (dk_at dksX9_check_7 4 rfl rfl)
theorem dX9_check_206 : decode cX9_check 206 = .ok (.aload_n 0, 1) := dk_42 (dk_at dksX9_check_7 6 rfl rfl)
theorem dX9_check_207 : decode cX9_check 207 = .ok (.invokevirtual 137, 3) := dk_182 0 137 (dk_at dksX9_check_7 7 rfl rfl)
theorem dX9_check_210 : decode cX9_check 210 = .ok (.istore 6, 2) := dk_54 6 (dk_at dksX9_check_7 10 rfl rfl)
theorem dX9_check_212 : decode cX9_check 212 = .ok (.aload_n 0, 1) := dk_42 (dk_at dksX9_check_7 12 rfl rfl)
theorem dX9_check_213 : decode cX9_check 213 = .ok (.iload 5, 2) := dk_21 5 (dk_at dksX9_check_7 13 rfl rfl)
theorem dX9_check_215 : decode cX9_check 215 = .ok (.iload 6, 2) := dk_21 6 (dk_at dksX9_check_7 15 rfl rfl)
theorem dX9_check_217 : decode cX9_check 217 = .ok (.if_icmp .le 7, 3) := dk_164 0 7 (dk_at dksX9_check_7 17 rfl rfl)
theorem dX9_check_220 : decode cX9_check 220 = .ok (.iconst 1, 1) := dk_4 (dk_at dksX9_check_7 20 rfl rfl)
theorem dX9_check_221 : decode cX9_check 221 = .ok (.goto 4, 3) := dk_167 0 4 (dk_at dksX9_check_7 21 rfl rfl)
theorem dX9_check_224 : decode cX9_check 224 = .ok (.iconst 0, 1) := dk_3 (dk_at dksX9_check_8 0 rfl rfl)
theorem dX9_check_225 : decode cX9_check 225 = .ok (.iload_n 3, 1) := dk_29 (dk_at dksX9_check_8 1 rfl rfl)
theorem dX9_check_226 : decode cX9_check 226 = .ok (.invokevirtual 63, 3) := dk_182 0 63 (dk_at dksX9_check_8 2 rfl rfl)
theorem dX9_check_229 : decode cX9_check 229 = .ok (.iload 5, 2) := dk_21 5 (dk_at dksX9_check_8 5 rfl rfl)
theorem dX9_check_231 : decode cX9_check 231 = .ok (.iload 6, 2) := dk_21 6 (dk_at dksX9_check_8 7 rfl rfl)
theorem dX9_check_233 : decode cX9_check 233 = .ok (.invokestatic 140, 3) := dk_184 0 140 (dk_at dksX9_check_8 9 rfl rfl)
theorem dX9_check_236 : decode cX9_check 236 = .ok (.areturn, 1) := dk_176 (dk_at dksX9_check_8 12 rfl rfl)
theorem dX9_check_237 : decode cX9_check 237 = .ok (.iload 4, 2) := dk_21 4 (dk_at dksX9_check_8 13 rfl rfl)
theorem dX9_check_239 : decode cX9_check 239 = .ok (.bipush 33, 2) := dk_16 33 (dk_at dksX9_check_8 15 rfl rfl)
theorem dX9_check_241 : decode cX9_check 241 = .ok (.if_icmp .ne 7, 3) := dk_160 0 7 (dk_at dksX9_check_8 17 rfl rfl)
theorem dX9_check_244 : decode cX9_check 244 = .ok (.iconst 1, 1) := dk_4 (dk_at dksX9_check_8 20 rfl rfl)
theorem dX9_check_245 : decode cX9_check 245 = .ok (.goto 4, 3) := dk_167 0 4 (dk_at dksX9_check_8 21 rfl rfl)
theorem dX9_check_248 : decode cX9_check 248 = .ok (.iconst 0, 1) := dk_3 (dk_at dksX9_check_9 0 rfl rfl)
theorem dX9_check_249 : decode cX9_check 249 = .ok (.aload_n 0, 1) := dk_42 (dk_at dksX9_check_9 1 rfl rfl)
theorem dX9_check_250 : decode cX9_check 250 = .ok (.aload_n 1, 1) := dk_43 (dk_at dksX9_check_9 2 rfl rfl)
theorem dX9_check_251 : decode cX9_check 251 = .ok (.iload_n 2, 1) := dk_28 (dk_at dksX9_check_9 3 rfl rfl)
theorem dX9_check_252 : decode cX9_check 252 = .ok (.invokevirtual 144, 3) := dk_182 0 144 (dk_at dksX9_check_9 4 rfl rfl)
theorem dX9_check_255 : decode cX9_check 255 = .ok (.invokestatic 148, 3) := dk_184 0 148 (dk_at dksX9_check_9 7 rfl rfl)
theorem dX9_check_258 : decode cX9_check 258 = .ok (.areturn, 1) := dk_176 (dk_at dksX9_check_9 10 rfl rfl)
theorem dX9_check_259 : decode cX9_check 259 = .ok (.aload_n 0, 1) := dk_42 (dk_at dksX9_check_9 11 rfl rfl)
theorem dX9_check_260 : decode cX9_check 260 = .ok (.aload_n 1, 1) := dk_43 (dk_at dksX9_check_9 12 rfl rfl)
theorem dX9_check_261 : decode cX9_check 261 = .ok (.invokevirtual 152, 3) := dk_182 0 152 (dk_at dksX9_check_9 13 rfl rfl)
theorem dX9_check_264 : decode cX9_check 264 = .ok (.areturn, 1) := dk_176 (dk_at dksX9_check_9 16 rfl rfl)
theorem dX9_check_265 : decode cX9_check 265 = .ok (.aload_n 0, 1) := dk_42 (dk_at dksX9_check_9 17 rfl rfl)
theorem dX9_check_266 : decode cX9_check 266 = .ok (.invokevirtual 67, 3) := dk_182 0 67 (dk_at dksX9_check_9 18 rfl rfl)
theorem dX9_check_269 : decode cX9_check 269 = .ok (.istore 7, 2) := dk_54 7 (dk_at dksX9_check_9 21 rfl rfl)
theorem dX9_check_271 : decode cX9_check 271 = .ok (.aload_n 0, 1) := dk_42 (dk_at dksX9_check_9 23 rfl rfl)
theorem dX9_check_272 : decode cX9_check 272 = .ok (.invokevirtual 67, 3) := dk_182 0 67 (dk_at dksX9_check_10 0 rfl rfl)
theorem dX9_check_275 : decode cX9_check 275 = .ok (.istore 8, 2) := dk_54 8 (dk_at dksX9_check_10 3 rfl rfl)
theorem dX9_check_277 : decode cX9_check 277 = .ok (.aload_n 0, 1) := dk_42 (dk_at dksX9_check_10 5 rfl rfl)
theorem dX9_check_278 : decode cX9_check 278 = .ok (.iload 7, 2) := dk_21 7 (dk_at dksX9_check_10 6 rfl rfl)
theorem dX9_check_280 : decode cX9_check 280 = .ok (.iload 8, 2) := dk_21 8 (dk_at dksX9_check_10 8 rfl rfl)
theorem dX9_check_282 : decode cX9_check 282 = .ok (.if_icmp .le 7, 3) := dk_164 0 7 (dk_at dksX9_check_10 10 rfl rfl)
theorem dX9_check_285 : decode cX9_check 285 = .ok (.iconst 1, 1) := dk_4 (dk_at dksX9_check_10 13 rfl rfl)
theorem dX9_check_286 : decode cX9_check 286 = .ok (.goto 4, 3) := dk_167 0 4 (dk_at dksX9_check_10 14 rfl rfl)
theorem dX9_check_289 : decode cX9_check 289 = .ok (.iconst 0, 1) := dk_3 (dk_at dksX9_check_10 17 rfl rfl)
theorem dX9_check_290 : decode cX9_check 290 = .ok (.iload_n 3, 1) := dk_29 (dk_at dksX9_check_10 18 rfl rfl)
theorem dX9_check_291 : decode cX9_check 291 = .ok (.invokevirtual 63, 3) := dk_182 0 63 (dk_at dksX9_check_10 19 rfl rfl)
theorem dX9_check_294 : decode cX9_check 294 = .ok (.iload 7, 2) := dk_21 7 (dk_at dksX9_check_10 22 rfl rfl)
theorem dX9_check_296 : decode cX9_check 296 = .ok (.iload 8, 2) := dk_21 8 (dk_at dksX9_check_11 0 rfl rfl)
theorem dX9_check_298 : decode cX9_check 298 = .ok (.aload_n 0, 1) := dk_42 (dk_at dksX9_check_11 2 rfl rfl)
theorem dX9_check_299 : decode cX9_check 299 = .ok (.aload_n 1, 1) := dk_43 (dk_at dksX9_check_11 3 rfl rfl)
theorem dX9_check_300 : decode cX9_check 300 = .ok (.iconst 1, 1) := dk_4 (dk_at dksX9_check_11 4 rfl rfl)
theorem dX9_check_301 : decode cX9_check 301 = .ok (.invokevirtual 144, 3) := dk_182 0 144 (dk_at dksX9_check_11 5 rfl rfl)
theorem dX9_check_304 : decode cX9_check 304 = .ok (.invokestatic 156, 3) := dk_184 0 156 (dk_at dksX9_check_11 8 rfl rfl)
theorem dX9_check_307 : decode cX9_check 307 = .ok (.areturn, 1) := dk_176 (dk_at dksX9_check_11 11 rfl rfl)
theorem dX9_check_308 : decode cX9_check 308 = .ok (.aload_n 0, 1) := dk_42 (dk_at dksX9_check_11 12 rfl rfl)
theorem dX9_check_309 : decode cX9_check 309 = .ok (.aload_n 1, 1) := dk_43 (dk_at dksX9_check_11 13 rfl rfl)
theorem dX9_check_310 : decode cX9_check 310 = .ok (.iload_n 2, 1) := dk_28 (dk_at dksX9_check_11 14 rfl rfl)
theorem dX9_check_311 : decode cX9_check 311 = .ok (.invokevirtual 144, 3) := dk_182 0 144 (dk_at dksX9_check_11 15 rfl rfl)
theorem dX9_check_314 : decode cX9_check 314 = .ok (.invokestatic 160, 3) := dk_184 0 160 (dk_at dksX9_check_11 18 rfl rfl)
theorem dX9_check_317 : decode cX9_check 317 = .ok (.areturn, 1) := dk_176 (dk_at dksX9_check_11 21 rfl rfl)
theorem dX9_check_318 : decode cX9_check 318 = .ok (.aload_n 0, 1) := dk_42 (dk_at dksX9_check_11 22 rfl rfl)
theorem dX9_check_319 : decode cX9_check 319 = .ok (.aload_n 1, 1) := dk_43 (dk_at dksX9_check_11 23 rfl rfl)
theorem dX9_check_320 : decode cX9_check 320 = .ok (.iload_n 2, 1) := dk_28 (dk_at dksX9_check_12 0 rfl rfl)
theorem dX9_check_321 : decode cX9_check 321 = .ok (.invokevirtual 144, 3) := dk_182 0 144 (dk_at dksX9_check_12 1 rfl rfl)
theorem dX9_check_324 : decode cX9_check 324 = .ok (.astore 9, 2) := dk_58 9 (dk_at dksX9_check_12 4 rfl rfl)
theorem dX9_check_326 : decode cX9_check 326 = .ok (.aload 9, 2) := dk_25 9 (dk_at dksX9_check_12 6 rfl rfl)
theorem dX9_check_328 : decode cX9_check 328 = .ok (.aload_n 0, 1) := dk_42 (dk_at dksX9_check_12 8 rfl rfl)
theorem dX9_check_329 : decode cX9_check 329 = .ok (.aload_n 1, 1) := dk_43 (dk_at dksX9_check_12 9 rfl rfl)
theorem dX9_check_330 : decode cX9_check 330 = .ok (.iload_n 2, 1) := dk_28 (dk_at dksX9_check_12 10 rfl rfl)
theorem dX9_check_331 : decode cX9_check 331 = .ok (.invokevirtual 144, 3) := dk_182 0 144 (dk_at dksX9_check_12 11 rfl rfl)
theorem dX9_check_334 : decode cX9_check 334 = .ok (.invokestatic 164, 3) := dk_184 0 164 (dk_at dksX9_check_12 14 rfl rfl)
theorem dX9_check_337 : decode cX9_check 337 = .ok (.areturn, 1) := dk_176 (dk_at dksX9_check_12 17 rfl rfl)
theorem dX9_check_338 : decode cX9_check 338 = .ok (.aload_n 0, 1) := dk_42 (dk_at dksX9_check_12 18 rfl rfl)
theorem dX9_check_339 : decode cX9_check 339 = .ok (.dup, 1) := dk_89 (dk_at dksX9_check_12 19 rfl rfl)
theorem dX9_check_340 : decode cX9_check 340 = .ok (.getfield 168, 3) := dk_180 0 168 (dk_at dksX9_check_12 20 rfl rfl)
theorem dX9_check_343 : decode cX9_check 343 = .ok (.iconst 1, 1) := dk_4 (dk_at dksX9_check_12 23 rfl rfl)
theorem dX9_check_344 : decode cX9_check 344 = .ok (.iadd, 1) := dk_96 (dk_at dksX9_check_13 0 rfl rfl)
theorem dX9_check_345 : decode cX9_check 345 = .ok (.putfield 168, 3) := dk_181 0 168 (dk_at dksX9_check_13 1 rfl rfl)
theorem dX9_check_348 : decode cX9_check 348 = .ok (.aload_n 0, 1) := dk_42 (dk_at dksX9_check_13 4 rfl rfl)
theorem dX9_check_349 : decode cX9_check 349 = .ok (.iload_n 2, 1) := dk_28 (dk_at dksX9_check_13 5 rfl rfl)
theorem dX9_check_350 : decode cX9_check 350 = .ok (.ifCond .eq 11, 3) := dk_153 0 11 (dk_at dksX9_check_13 6 rfl rfl)
theorem dX9_check_353 : decode cX9_check 353 = .ok (.aload_n 0, 1) := dk_42 (dk_at dksX9_check_13 9 rfl rfl)
theorem dX9_check_354 : decode cX9_check 354 = .ok (.getfield 168, 3) := dk_180 0 168 (dk_at dksX9_check_13 10 rfl rfl)
theorem dX9_check_357 : decode cX9_check 357 = .ok (.iconst 3, 1) := dk_6 (dk_at dksX9_check_13 13 rfl rfl)
theorem dX9_check_358 : decode cX9_check 358 = .ok (.if_icmp .le 7, 3) := dk_164 0 7 (dk_at dksX9_check_13 14 rfl rfl)
theorem dX9_check_361 : decode cX9_check 361 = .ok (.iconst 1, 1) := dk_4 (dk_at dksX9_check_13 17 rfl rfl)
theorem dX9_check_362 : decode cX9_check 362 = .ok (.goto 4, 3) := dk_167 0 4 (dk_at dksX9_check_13 18 rfl rfl)
theorem dX9_check_365 : decode cX9_check 365 = .ok (.iconst 0, 1) := dk_3 (dk_at dksX9_check_13 21 rfl rfl)
theorem dX9_check_366 : decode cX9_check 366 = .ok (.iload_n 3, 1) := dk_29 (dk_at dksX9_check_13 22 rfl rfl)
theorem dX9_check_367 : decode cX9_check 367 = .ok (.invokevirtual 63, 3) := dk_182 0 63 (dk_at dksX9_check_14 0 rfl rfl)
theorem dX9_check_370 : decode cX9_check 370 = .ok (.aload_n 1, 1) := dk_43 (dk_at dksX9_check_14 3 rfl rfl)
theorem dX9_check_371 : decode cX9_check 371 = .ok (.invokevirtual 171, 3) := dk_182 0 171 (dk_at dksX9_check_14 4 rfl rfl)
theorem dX9_check_374 : decode cX9_check 374 = .ok (.areturn, 1) := dk_176 (dk_at dksX9_check_14 7 rfl rfl)
theorem dX9_check_375 : decode cX9_check 375 = .ok (.invokedynamic 177, 5) := by decide +kernel
theorem dX9_check_380 : decode cX9_check 380 = .ok (.areturn, 1) := dk_176 (dk_at dksX9_check_14 13 rfl rfl)
abbrev cX9_pair : ByteArray := prog_15_method_13_code
def yX9_pair : MethodName := ⟨RX9, "pair", "()I"⟩
def dkwX9_pair_0 : List UInt8 := [42, 182, 0, 67, 60, 16, 10, 27, 104, 42, 182, 0, 67, 96, 172]
abbrev dktX9_pair_0 : List UInt8 := dkwX9_pair_0 ++ []
theorem dksX9_pair_0 : cX9_pair.data.toList.drop 0 = dktX9_pair_0 := by decide +kernel
theorem dX9_pair_0 : decode cX9_pair 0 = .ok (.aload_n 0, 1) := dk_42 (dk_at dksX9_pair_0 0 rfl rfl)
theorem dX9_pair_1 : decode cX9_pair 1 = .ok (.invokevirtual 67, 3) := dk_182 0 67 (dk_at dksX9_pair_0 1 rfl rfl)
theorem dX9_pair_4 : decode cX9_pair 4 = .ok (.istore_n 1, 1) := dk_60 (dk_at dksX9_pair_0 4 rfl rfl)
theorem dX9_pair_5 : decode cX9_pair 5 = .ok (.bipush 10, 2) := dk_16 10 (dk_at dksX9_pair_0 5 rfl rfl)
theorem dX9_pair_7 : decode cX9_pair 7 = .ok (.iload_n 1, 1) := dk_27 (dk_at dksX9_pair_0 7 rfl rfl)
theorem dX9_pair_8 : decode cX9_pair 8 = .ok (.imul, 1) := dk_104 (dk_at dksX9_pair_0 8 rfl rfl)
theorem dX9_pair_9 : decode cX9_pair 9 = .ok (.aload_n 0, 1) := dk_42 (dk_at dksX9_pair_0 9 rfl rfl)
theorem dX9_pair_10 : decode cX9_pair 10 = .ok (.invokevirtual 67, 3) := dk_182 0 67 (dk_at dksX9_pair_0 10 rfl rfl)
theorem dX9_pair_13 : decode cX9_pair 13 = .ok (.iadd, 1) := dk_96 (dk_at dksX9_pair_0 13 rfl rfl)
theorem dX9_pair_14 : decode cX9_pair 14 = .ok (.ireturn, 1) := dk_172 (dk_at dksX9_pair_0 14 rfl rfl)
abbrev cX9_record : ByteArray := prog_15_method_15_code
def yX9_record : MethodName := ⟨RX9, "record", "(LGathersAllFaults$Compiled;)LGathersAllFaults$Look;"⟩
def dkwX9_record_10 : List UInt8 := [16, 9, 21, 5, 21, 6, 182, 0, 195, 167, 255, 125, 42, 16, 125, 182, 0, 116, 44, 182, 0, 199, 176]
abbrev dktX9_record_10 : List UInt8 := dkwX9_record_10 ++ []
def dkwX9_record_9 : List UInt8 := [167, 0, 8, 186, 0, 194, 0, 0, 58, 7, 44, 25, 7, 21, 4, 153, 0, 8, 16, 8, 167, 0, 5]
abbrev dktX9_record_9 : List UInt8 := dkwX9_record_9 ++ dktX9_record_10
def dkwX9_record_8 : List UInt8 := [154, 0, 7, 4, 167, 0, 4, 3, 29, 182, 0, 63, 21, 4, 153, 0, 11, 186, 0, 190, 0, 0]
abbrev dktX9_record_8 : List UInt8 := dkwX9_record_8 ++ dktX9_record_9
def dkwX9_record_7 : List UInt8 := [54, 5, 42, 182, 0, 86, 54, 6, 42, 44, 21, 5, 182, 0, 182, 153, 0, 12, 44, 21, 6, 182, 0, 182]
abbrev dktX9_record_7 : List UInt8 := dkwX9_record_7 ++ dktX9_record_8
def dkwX9_record_6 : List UInt8 := [160, 0, 7, 4, 167, 0, 4, 3, 54, 4, 42, 89, 180, 0, 26, 4, 96, 181, 0, 26, 42, 182, 0, 86]
abbrev dktX9_record_6 : List UInt8 := dkwX9_record_6 ++ dktX9_record_7
def dkwX9_record_5 : List UInt8 := [159, 0, 12, 42, 182, 0, 38, 16, 61, 160, 0, 119, 42, 180, 0, 26, 62, 42, 182, 0, 38, 16, 60]
abbrev dktX9_record_5 : List UInt8 := dkwX9_record_5 ++ dktX9_record_6
def dkwX9_record_4 : List UInt8 := [21, 5, 21, 4, 42, 43, 4, 182, 0, 144, 182, 0, 186, 167, 255, 159, 42, 182, 0, 38, 16, 60]
abbrev dktX9_record_4 : List UInt8 := dkwX9_record_4 ++ dktX9_record_5
def dkwX9_record_3 : List UInt8 := [3, 96, 181, 0, 26, 42, 182, 0, 86, 54, 5, 42, 44, 21, 5, 182, 0, 182, 29, 182, 0, 63, 44]
abbrev dktX9_record_3 : List UInt8 := dkwX9_record_3 ++ dktX9_record_4
def dkwX9_record_2 : List UInt8 := [160, 0, 7, 4, 167, 0, 4, 3, 54, 4, 42, 89, 180, 0, 26, 21, 4, 153, 0, 7, 4, 167, 0, 4]
abbrev dktX9_record_2 : List UInt8 := dkwX9_record_2 ++ dktX9_record_3
def dkwX9_record_1 : List UInt8 := [20, 0, 130, 20, 0, 132, 184, 0, 50, 153, 0, 77, 42, 180, 0, 26, 62, 42, 182, 0, 38, 16, 46]
abbrev dktX9_record_1 : List UInt8 := dkwX9_record_1 ++ dktX9_record_2
def dkwX9_record_0 : List UInt8 := [187, 0, 179, 89, 183, 0, 181, 77, 42, 182, 0, 38, 16, 46, 159, 0, 20, 42, 182, 0, 38, 133]
abbrev dktX9_record_0 : List UInt8 := dkwX9_record_0 ++ dktX9_record_1
theorem dksX9_record_0 : cX9_record.data.toList.drop 0 = dktX9_record_0 := by decide +kernel
theorem dksX9_record_1 : cX9_record.data.toList.drop 22 = dktX9_record_1 := dk_seg dksX9_record_0 22 rfl rfl
theorem dksX9_record_2 : cX9_record.data.toList.drop 45 = dktX9_record_2 := dk_seg dksX9_record_1 23 rfl rfl
theorem dksX9_record_3 : cX9_record.data.toList.drop 69 = dktX9_record_3 := dk_seg dksX9_record_2 24 rfl rfl
theorem dksX9_record_4 : cX9_record.data.toList.drop 92 = dktX9_record_4 := dk_seg dksX9_record_3 23 rfl rfl
theorem dksX9_record_5 : cX9_record.data.toList.drop 114 = dktX9_record_5 := dk_seg dksX9_record_4 22 rfl rfl
theorem dksX9_record_6 : cX9_record.data.toList.drop 137 = dktX9_record_6 := dk_seg dksX9_record_5 23 rfl rfl
theorem dksX9_record_7 : cX9_record.data.toList.drop 161 = dktX9_record_7 := dk_seg dksX9_record_6 24 rfl rfl
theorem dksX9_record_8 : cX9_record.data.toList.drop 185 = dktX9_record_8 := dk_seg dksX9_record_7 24 rfl rfl
theorem dksX9_record_9 : cX9_record.data.toList.drop 207 = dktX9_record_9 := dk_seg dksX9_record_8 22 rfl rfl
theorem dksX9_record_10 : cX9_record.data.toList.drop 230 = dktX9_record_10 := dk_seg dksX9_record_9 23 rfl rfl
theorem dX9_record_0 : decode cX9_record 0 = .ok (.new 179, 3) := dk_187 0 179 (dk_at dksX9_record_0 0 rfl rfl)
theorem dX9_record_3 : decode cX9_record 3 = .ok (.dup, 1) := dk_89 (dk_at dksX9_record_0 3 rfl rfl)
theorem dX9_record_4 : decode cX9_record 4 = .ok (.invokespecial 181, 3) := dk_183 0 181 (dk_at dksX9_record_0 4 rfl rfl)
theorem dX9_record_7 : decode cX9_record 7 = .ok (.astore_n 2, 1) := dk_77 (dk_at dksX9_record_0 7 rfl rfl)
theorem dX9_record_8 : decode cX9_record 8 = .ok (.aload_n 0, 1) := dk_42 (dk_at dksX9_record_0 8 rfl rfl)
theorem dX9_record_9 : decode cX9_record 9 = .ok (.invokevirtual 38, 3) := dk_182 0 38 (dk_at dksX9_record_0 9 rfl rfl)
theorem dX9_record_12 : decode cX9_record 12 = .ok (.bipush 46, 2) := dk_16 46 (dk_at dksX9_record_0 12 rfl rfl)
theorem dX9_record_14 : decode cX9_record 14 = .ok (.if_icmp .eq 20, 3) := dk_159 0 20 (dk_at dksX9_record_0 14 rfl rfl)
theorem dX9_record_17 : decode cX9_record 17 = .ok (.aload_n 0, 1) := dk_42 (dk_at dksX9_record_0 17 rfl rfl)
theorem dX9_record_18 : decode cX9_record 18 = .ok (.invokevirtual 38, 3) := dk_182 0 38 (dk_at dksX9_record_0 18 rfl rfl)
theorem dX9_record_21 : decode cX9_record 21 = .ok (.i2l, 1) := dk_133 (dk_at dksX9_record_0 21 rfl rfl)
theorem dX9_record_22 : decode cX9_record 22 = .ok (.ldc2_w 130, 3) := dk_20 0 130 (dk_at dksX9_record_1 0 rfl rfl)
theorem dX9_record_25 : decode cX9_record 25 = .ok (.ldc2_w 132, 3) := dk_20 0 132 (dk_at dksX9_record_1 3 rfl rfl)
theorem dX9_record_28 : decode cX9_record 28 = .ok (.invokestatic 50, 3) := dk_184 0 50 (dk_at dksX9_record_1 6 rfl rfl)
theorem dX9_record_31 : decode cX9_record 31 = .ok (.ifCond .eq 77, 3) := dk_153 0 77 (dk_at dksX9_record_1 9 rfl rfl)
theorem dX9_record_34 : decode cX9_record 34 = .ok (.aload_n 0, 1) := dk_42 (dk_at dksX9_record_1 12 rfl rfl)
theorem dX9_record_35 : decode cX9_record 35 = .ok (.getfield 26, 3) := dk_180 0 26 (dk_at dksX9_record_1 13 rfl rfl)
theorem dX9_record_38 : decode cX9_record 38 = .ok (.istore_n 3, 1) := dk_62 (dk_at dksX9_record_1 16 rfl rfl)
theorem dX9_record_39 : decode cX9_record 39 = .ok (.aload_n 0, 1) := dk_42 (dk_at dksX9_record_1 17 rfl rfl)
theorem dX9_record_40 : decode cX9_record 40 = .ok (.invokevirtual 38, 3) := dk_182 0 38 (dk_at dksX9_record_1 18 rfl rfl)
theorem dX9_record_43 : decode cX9_record 43 = .ok (.bipush 46, 2) := dk_16 46 (dk_at dksX9_record_1 21 rfl rfl)
theorem dX9_record_45 : decode cX9_record 45 = .ok (.if_icmp .ne 7, 3) := dk_160 0 7 (dk_at dksX9_record_2 0 rfl rfl)
theorem dX9_record_48 : decode cX9_record 48 = .ok (.iconst 1, 1) := dk_4 (dk_at dksX9_record_2 3 rfl rfl)
theorem dX9_record_49 : decode cX9_record 49 = .ok (.goto 4, 3) := dk_167 0 4 (dk_at dksX9_record_2 4 rfl rfl)
theorem dX9_record_52 : decode cX9_record 52 = .ok (.iconst 0, 1) := dk_3 (dk_at dksX9_record_2 7 rfl rfl)
theorem dX9_record_53 : decode cX9_record 53 = .ok (.istore 4, 2) := dk_54 4 (dk_at dksX9_record_2 8 rfl rfl)
theorem dX9_record_55 : decode cX9_record 55 = .ok (.aload_n 0, 1) := dk_42 (dk_at dksX9_record_2 10 rfl rfl)
theorem dX9_record_56 : decode cX9_record 56 = .ok (.dup, 1) := dk_89 (dk_at dksX9_record_2 11 rfl rfl)
theorem dX9_record_57 : decode cX9_record 57 = .ok (.getfield 26, 3) := dk_180 0 26 (dk_at dksX9_record_2 12 rfl rfl)
theorem dX9_record_60 : decode cX9_record 60 = .ok (.iload 4, 2) := dk_21 4 (dk_at dksX9_record_2 15 rfl rfl)
theorem dX9_record_62 : decode cX9_record 62 = .ok (.ifCond .eq 7, 3) := dk_153 0 7 (dk_at dksX9_record_2 17 rfl rfl)
theorem dX9_record_65 : decode cX9_record 65 = .ok (.iconst 1, 1) := dk_4 (dk_at dksX9_record_2 20 rfl rfl)
theorem dX9_record_66 : decode cX9_record 66 = .ok (.goto 4, 3) := dk_167 0 4 (dk_at dksX9_record_2 21 rfl rfl)
theorem dX9_record_69 : decode cX9_record 69 = .ok (.iconst 0, 1) := dk_3 (dk_at dksX9_record_3 0 rfl rfl)
theorem dX9_record_70 : decode cX9_record 70 = .ok (.iadd, 1) := dk_96 (dk_at dksX9_record_3 1 rfl rfl)
theorem dX9_record_71 : decode cX9_record 71 = .ok (.putfield 26, 3) := dk_181 0 26 (dk_at dksX9_record_3 2 rfl rfl)
theorem dX9_record_74 : decode cX9_record 74 = .ok (.aload_n 0, 1) := dk_42 (dk_at dksX9_record_3 5 rfl rfl)
theorem dX9_record_75 : decode cX9_record 75 = .ok (.invokevirtual 86, 3) := dk_182 0 86 (dk_at dksX9_record_3 6 rfl rfl)
theorem dX9_record_78 : decode cX9_record 78 = .ok (.istore 5, 2) := dk_54 5 (dk_at dksX9_record_3 9 rfl rfl)
theorem dX9_record_80 : decode cX9_record 80 = .ok (.aload_n 0, 1) := dk_42 (dk_at dksX9_record_3 11 rfl rfl)
theorem dX9_record_81 : decode cX9_record 81 = .ok (.aload_n 2, 1) := dk_44 (dk_at dksX9_record_3 12 rfl rfl)
theorem dX9_record_82 : decode cX9_record 82 = .ok (.iload 5, 2) := dk_21 5 (dk_at dksX9_record_3 13 rfl rfl)
theorem dX9_record_84 : decode cX9_record 84 = .ok (.invokevirtual 182, 3) := dk_182 0 182 (dk_at dksX9_record_3 15 rfl rfl)
theorem dX9_record_87 : decode cX9_record 87 = .ok (.iload_n 3, 1) := dk_29 (dk_at dksX9_record_3 18 rfl rfl)
theorem dX9_record_88 : decode cX9_record 88 = .ok (.invokevirtual 63, 3) := dk_182 0 63 (dk_at dksX9_record_3 19 rfl rfl)
theorem dX9_record_91 : decode cX9_record 91 = .ok (.aload_n 2, 1) := dk_44 (dk_at dksX9_record_3 22 rfl rfl)
theorem dX9_record_92 : decode cX9_record 92 = .ok (.iload 5, 2) := dk_21 5 (dk_at dksX9_record_4 0 rfl rfl)
theorem dX9_record_94 : decode cX9_record 94 = .ok (.iload 4, 2) := dk_21 4 (dk_at dksX9_record_4 2 rfl rfl)
theorem dX9_record_96 : decode cX9_record 96 = .ok (.aload_n 0, 1) := dk_42 (dk_at dksX9_record_4 4 rfl rfl)
theorem dX9_record_97 : decode cX9_record 97 = .ok (.aload_n 1, 1) := dk_43 (dk_at dksX9_record_4 5 rfl rfl)
theorem dX9_record_98 : decode cX9_record 98 = .ok (.iconst 1, 1) := dk_4 (dk_at dksX9_record_4 6 rfl rfl)
theorem dX9_record_99 : decode cX9_record 99 = .ok (.invokevirtual 144, 3) := dk_182 0 144 (dk_at dksX9_record_4 7 rfl rfl)
theorem dX9_record_102 : decode cX9_record 102 = .ok (.invokevirtual 186, 3) := dk_182 0 186 (dk_at dksX9_record_4 10 rfl rfl)
theorem dX9_record_105 : decode cX9_record 105 = .ok (.goto (-97), 3) := dk_167 255 159 (dk_at dksX9_record_4 13 rfl rfl)
theorem dX9_record_108 : decode cX9_record 108 = .ok (.aload_n 0, 1) := dk_42 (dk_at dksX9_record_4 16 rfl rfl)
theorem dX9_record_109 : decode cX9_record 109 = .ok (.invokevirtual 38, 3) := dk_182 0 38 (dk_at dksX9_record_4 17 rfl rfl)
theorem dX9_record_112 : decode cX9_record 112 = .ok (.bipush 60, 2) := dk_16 60 (dk_at dksX9_record_4 20 rfl rfl)
theorem dX9_record_114 : decode cX9_record 114 = .ok (.if_icmp .eq 12, 3) := dk_159 0 12 (dk_at dksX9_record_5 0 rfl rfl)
theorem dX9_record_117 : decode cX9_record 117 = .ok (.aload_n 0, 1) := dk_42 (dk_at dksX9_record_5 3 rfl rfl)
theorem dX9_record_118 : decode cX9_record 118 = .ok (.invokevirtual 38, 3) := dk_182 0 38 (dk_at dksX9_record_5 4 rfl rfl)
theorem dX9_record_121 : decode cX9_record 121 = .ok (.bipush 61, 2) := dk_16 61 (dk_at dksX9_record_5 7 rfl rfl)
theorem dX9_record_123 : decode cX9_record 123 = .ok (.if_icmp .ne 119, 3) := dk_160 0 119 (dk_at dksX9_record_5 9 rfl rfl)
theorem dX9_record_126 : decode cX9_record 126 = .ok (.aload_n 0, 1) := dk_42 (dk_at dksX9_record_5 12 rfl rfl)
theorem dX9_record_127 : decode cX9_record 127 = .ok (.getfield 26, 3) := dk_180 0 26 (dk_at dksX9_record_5 13 rfl rfl)
theorem dX9_record_130 : decode cX9_record 130 = .ok (.istore_n 3, 1) := dk_62 (dk_at dksX9_record_5 16 rfl rfl)
theorem dX9_record_131 : decode cX9_record 131 = .ok (.aload_n 0, 1) := dk_42 (dk_at dksX9_record_5 17 rfl rfl)
theorem dX9_record_132 : decode cX9_record 132 = .ok (.invokevirtual 38, 3) := dk_182 0 38 (dk_at dksX9_record_5 18 rfl rfl)
theorem dX9_record_135 : decode cX9_record 135 = .ok (.bipush 60, 2) := dk_16 60 (dk_at dksX9_record_5 21 rfl rfl)
theorem dX9_record_137 : decode cX9_record 137 = .ok (.if_icmp .ne 7, 3) := dk_160 0 7 (dk_at dksX9_record_6 0 rfl rfl)
theorem dX9_record_140 : decode cX9_record 140 = .ok (.iconst 1, 1) := dk_4 (dk_at dksX9_record_6 3 rfl rfl)
theorem dX9_record_141 : decode cX9_record 141 = .ok (.goto 4, 3) := dk_167 0 4 (dk_at dksX9_record_6 4 rfl rfl)
theorem dX9_record_144 : decode cX9_record 144 = .ok (.iconst 0, 1) := dk_3 (dk_at dksX9_record_6 7 rfl rfl)
theorem dX9_record_145 : decode cX9_record 145 = .ok (.istore 4, 2) := dk_54 4 (dk_at dksX9_record_6 8 rfl rfl)
theorem dX9_record_147 : decode cX9_record 147 = .ok (.aload_n 0, 1) := dk_42 (dk_at dksX9_record_6 10 rfl rfl)
theorem dX9_record_148 : decode cX9_record 148 = .ok (.dup, 1) := dk_89 (dk_at dksX9_record_6 11 rfl rfl)
theorem dX9_record_149 : decode cX9_record 149 = .ok (.getfield 26, 3) := dk_180 0 26 (dk_at dksX9_record_6 12 rfl rfl)
theorem dX9_record_152 : decode cX9_record 152 = .ok (.iconst 1, 1) := dk_4 (dk_at dksX9_record_6 15 rfl rfl)
theorem dX9_record_153 : decode cX9_record 153 = .ok (.iadd, 1) := dk_96 (dk_at dksX9_record_6 16 rfl rfl)
theorem dX9_record_154 : decode cX9_record 154 = .ok (.putfield 26, 3) := dk_181 0 26 (dk_at dksX9_record_6 17 rfl rfl)
theorem dX9_record_157 : decode cX9_record 157 = .ok (.aload_n 0, 1) := dk_42 (dk_at dksX9_record_6 20 rfl rfl)
theorem dX9_record_158 : decode cX9_record 158 = .ok (.invokevirtual 86, 3) := dk_182 0 86 (dk_at dksX9_record_6 21 rfl rfl)
theorem dX9_record_161 : decode cX9_record 161 = .ok (.istore 5, 2) := dk_54 5 (dk_at dksX9_record_7 0 rfl rfl)
theorem dX9_record_163 : decode cX9_record 163 = .ok (.aload_n 0, 1) := dk_42 (dk_at dksX9_record_7 2 rfl rfl)
theorem dX9_record_164 : decode cX9_record 164 = .ok (.invokevirtual 86, 3) := dk_182 0 86 (dk_at dksX9_record_7 3 rfl rfl)
theorem dX9_record_167 : decode cX9_record 167 = .ok (.istore 6, 2) := dk_54 6 (dk_at dksX9_record_7 6 rfl rfl)
theorem dX9_record_169 : decode cX9_record 169 = .ok (.aload_n 0, 1) := dk_42 (dk_at dksX9_record_7 8 rfl rfl)
theorem dX9_record_170 : decode cX9_record 170 = .ok (.aload_n 2, 1) := dk_44 (dk_at dksX9_record_7 9 rfl rfl)
theorem dX9_record_171 : decode cX9_record 171 = .ok (.iload 5, 2) := dk_21 5 (dk_at dksX9_record_7 10 rfl rfl)
theorem dX9_record_173 : decode cX9_record 173 = .ok (.invokevirtual 182, 3) := dk_182 0 182 (dk_at dksX9_record_7 12 rfl rfl)
theorem dX9_record_176 : decode cX9_record 176 = .ok (.ifCond .eq 12, 3) := dk_153 0 12 (dk_at dksX9_record_7 15 rfl rfl)
theorem dX9_record_179 : decode cX9_record 179 = .ok (.aload_n 2, 1) := dk_44 (dk_at dksX9_record_7 18 rfl rfl)
theorem dX9_record_180 : decode cX9_record 180 = .ok (.iload 6, 2) := dk_21 6 (dk_at dksX9_record_7 19 rfl rfl)
theorem dX9_record_182 : decode cX9_record 182 = .ok (.invokevirtual 182, 3) := dk_182 0 182 (dk_at dksX9_record_7 21 rfl rfl)
theorem dX9_record_185 : decode cX9_record 185 = .ok (.ifCond .ne 7, 3) := dk_154 0 7 (dk_at dksX9_record_8 0 rfl rfl)
theorem dX9_record_188 : decode cX9_record 188 = .ok (.iconst 1, 1) := dk_4 (dk_at dksX9_record_8 3 rfl rfl)
theorem dX9_record_189 : decode cX9_record 189 = .ok (.goto 4, 3) := dk_167 0 4 (dk_at dksX9_record_8 4 rfl rfl)
theorem dX9_record_192 : decode cX9_record 192 = .ok (.iconst 0, 1) := dk_3 (dk_at dksX9_record_8 7 rfl rfl)
theorem dX9_record_193 : decode cX9_record 193 = .ok (.iload_n 3, 1) := dk_29 (dk_at dksX9_record_8 8 rfl rfl)
theorem dX9_record_194 : decode cX9_record 194 = .ok (.invokevirtual 63, 3) := dk_182 0 63 (dk_at dksX9_record_8 9 rfl rfl)
theorem dX9_record_197 : decode cX9_record 197 = .ok (.iload 4, 2) := dk_21 4 (dk_at dksX9_record_8 12 rfl rfl)
theorem dX9_record_199 : decode cX9_record 199 = .ok (.ifCond .eq 11, 3) := dk_153 0 11 (dk_at dksX9_record_8 14 rfl rfl)
theorem dX9_record_202 : decode cX9_record 202 = .ok (.invokedynamic 190, 5) := by decide +kernel
theorem dX9_record_207 : decode cX9_record 207 = .ok (.goto 8, 3) := dk_167 0 8 (dk_at dksX9_record_9 0 rfl rfl)
theorem dX9_record_210 : decode cX9_record 210 = .ok (.invokedynamic 194, 5) := by decide +kernel
theorem dX9_record_215 : decode cX9_record 215 = .ok (.astore 7, 2) := dk_58 7 (dk_at dksX9_record_9 8 rfl rfl)
theorem dX9_record_217 : decode cX9_record 217 = .ok (.aload_n 2, 1) := dk_44 (dk_at dksX9_record_9 10 rfl rfl)
theorem dX9_record_218 : decode cX9_record 218 = .ok (.aload 7, 2) := dk_25 7 (dk_at dksX9_record_9 11 rfl rfl)
theorem dX9_record_220 : decode cX9_record 220 = .ok (.iload 4, 2) := dk_21 4 (dk_at dksX9_record_9 13 rfl rfl)
theorem dX9_record_222 : decode cX9_record 222 = .ok (.ifCond .eq 8, 3) := dk_153 0 8 (dk_at dksX9_record_9 15 rfl rfl)
theorem dX9_record_225 : decode cX9_record 225 = .ok (.bipush 8, 2) := dk_16 8 (dk_at dksX9_record_9 18 rfl rfl)
theorem dX9_record_227 : decode cX9_record 227 = .ok (.goto 5, 3) := dk_167 0 5 (dk_at dksX9_record_9 20 rfl rfl)
theorem dX9_record_230 : decode cX9_record 230 = .ok (.bipush 9, 2) := dk_16 9 (dk_at dksX9_record_10 0 rfl rfl)
theorem dX9_record_232 : decode cX9_record 232 = .ok (.iload 5, 2) := dk_21 5 (dk_at dksX9_record_10 2 rfl rfl)
theorem dX9_record_234 : decode cX9_record 234 = .ok (.iload 6, 2) := dk_21 6 (dk_at dksX9_record_10 4 rfl rfl)
theorem dX9_record_236 : decode cX9_record 236 = .ok (.invokevirtual 195, 3) := dk_182 0 195 (dk_at dksX9_record_10 6 rfl rfl)
theorem dX9_record_239 : decode cX9_record 239 = .ok (.goto (-131), 3) := dk_167 255 125 (dk_at dksX9_record_10 9 rfl rfl)
theorem dX9_record_242 : decode cX9_record 242 = .ok (.aload_n 0, 1) := dk_42 (dk_at dksX9_record_10 12 rfl rfl)
theorem dX9_record_243 : decode cX9_record 243 = .ok (.bipush 125, 2) := dk_16 125 (dk_at dksX9_record_10 13 rfl rfl)
theorem dX9_record_245 : decode cX9_record 245 = .ok (.invokevirtual 116, 3) := dk_182 0 116 (dk_at dksX9_record_10 15 rfl rfl)
theorem dX9_record_248 : decode cX9_record 248 = .ok (.aload_n 2, 1) := dk_44 (dk_at dksX9_record_10 18 rfl rfl)
theorem dX9_record_249 : decode cX9_record 249 = .ok (.invokevirtual 199, 3) := dk_182 0 199 (dk_at dksX9_record_10 19 rfl rfl)
theorem dX9_record_252 : decode cX9_record 252 = .ok (.areturn, 1) := dk_176 (dk_at dksX9_record_10 22 rfl rfl)
abbrev cX9_lambda_record_1 : ByteArray := prog_15_method_17_code
def yX9_lambda_record_1 : MethodName := ⟨RX9, "lambda$record$1", "(LGathersAllFaults$Value;LGathersAllFaults$Value;)Z"⟩
def dkwX9_lambda_record_1_0 : List UInt8 := [42, 43, 184, 0, 205, 172]
abbrev dktX9_lambda_record_1_0 : List UInt8 := dkwX9_lambda_record_1_0 ++ []
theorem dksX9_lambda_record_1_0 : cX9_lambda_record_1.data.toList.drop 0 = dktX9_lambda_record_1_0 := by decide +kernel
theorem dX9_lambda_record_1_0 : decode cX9_lambda_record_1 0 = .ok (.aload_n 0, 1) := dk_42 (dk_at dksX9_lambda_record_1_0 0 rfl rfl)
theorem dX9_lambda_record_1_1 : decode cX9_lambda_record_1 1 = .ok (.aload_n 1, 1) := dk_43 (dk_at dksX9_lambda_record_1_0 1 rfl rfl)
theorem dX9_lambda_record_1_2 : decode cX9_lambda_record_1 2 = .ok (.invokestatic 205, 3) := dk_184 0 205 (dk_at dksX9_lambda_record_1_0 2 rfl rfl)
theorem dX9_lambda_record_1_5 : decode cX9_lambda_record_1 5 = .ok (.ireturn, 1) := dk_172 (dk_at dksX9_lambda_record_1_0 5 rfl rfl)
abbrev cX9_lambda_record_2 : ByteArray := prog_15_method_16_code
def yX9_lambda_record_2 : MethodName := ⟨RX9, "lambda$record$2", "(LGathersAllFaults$Value;LGathersAllFaults$Value;)Z"⟩
def dkwX9_lambda_record_2_0 : List UInt8 := [42, 43, 182, 0, 202, 172]
abbrev dktX9_lambda_record_2_0 : List UInt8 := dkwX9_lambda_record_2_0 ++ []
theorem dksX9_lambda_record_2_0 : cX9_lambda_record_2.data.toList.drop 0 = dktX9_lambda_record_2_0 := by decide +kernel
theorem dX9_lambda_record_2_0 : decode cX9_lambda_record_2 0 = .ok (.aload_n 0, 1) := dk_42 (dk_at dksX9_lambda_record_2_0 0 rfl rfl)
theorem dX9_lambda_record_2_1 : decode cX9_lambda_record_2 1 = .ok (.aload_n 1, 1) := dk_43 (dk_at dksX9_lambda_record_2_0 1 rfl rfl)
theorem dX9_lambda_record_2_2 : decode cX9_lambda_record_2 2 = .ok (.invokevirtual 202, 3) := dk_182 0 202 (dk_at dksX9_lambda_record_2_0 2 rfl rfl)
theorem dX9_lambda_record_2_5 : decode cX9_lambda_record_2 5 = .ok (.ireturn, 1) := dk_172 (dk_at dksX9_lambda_record_2_0 5 rfl rfl)
abbrev cX9_lambda_check_0 : ByteArray := prog_15_method_18_code
def yX9_lambda_check_0 : MethodName := ⟨RX9, "lambda$check$0", "(LGathersAllFaults$Value;ILGathersAllFaults$Finding;)V"⟩
theorem dX9_lambda_check_0_0 : decode cX9_lambda_check_0 0 = .ok (.return_, 1) := by decide +kernel
theorem q150 : (Jvm.Cond.initialized "GathersAllFaults$Reader") ∈ lw_all := lw_g (lw_at lw_m1 13 rfl) rfl
theorem q272 : (Jvm.Cond.fieldLinkNest "GathersAllFaults$Reader" (29 : Nat) "GathersAllFaults" "letters" "[C" "GathersAllFaults") ∈ lw_tbl := lw_at lw_m1 135 rfl
theorem q274 : (Jvm.Cond.fieldLinkNest "GathersAllFaults$Reader" (15 : Nat) "GathersAllFaults" "letterMany" "I" "GathersAllFaults") ∈ lw_tbl := lw_at lw_m1 137 rfl
theorem q419 : (Jvm.Cond.instantiable "GathersAllFaults$Reader" (7 : Nat)) ∈ lw_all := lw_g (lw_at lw_m2 42 rfl) rfl
theorem q421 : (Jvm.Cond.instanceMethod ({ cls := "GathersAllFaults$Reader", name := "<init>", desc := "(LGathersAllFaults;)V" } : Jvm.MethodName)) ∈ lw_all := lw_g (lw_at lw_m2 44 rfl) rfl
theorem q422 : (Jvm.Cond.code ({ cls := "GathersAllFaults$Reader", name := "<init>", desc := "(LGathersAllFaults;)V" } : Jvm.MethodName) prog_15_method_1_code (2 : Nat) (Option.none : Option Jvm.ClassFile.FieldType)) ∈ lw_all := lw_g (lw_at lw_m2 45 rfl) rfl
theorem q423 : (Jvm.Cond.methodLink "GathersAllFaults$Reader" (9 : Nat) ({ cls := "java/lang/Object", name := "<init>", desc := "()V" } : Jvm.MethodName)) ∈ lw_all := lw_g (lw_at lw_m2 46 rfl) rfl
theorem q424 : (Jvm.Cond.constant "GathersAllFaults$Reader" (22 : Nat) (1000000 : Int32)) ∈ lw_all := lw_g (lw_at lw_m2 47 rfl) rfl
theorem q425 : (Jvm.Cond.fieldLink "GathersAllFaults$Reader" (19 : Nat) "GathersAllFaults$Reader" "size" "I") ∈ lw_all := lw_g (lw_at lw_m2 48 rfl) rfl
theorem q426 : (Jvm.Cond.fieldLink "GathersAllFaults$Reader" (26 : Nat) "GathersAllFaults$Reader" "at" "I") ∈ lw_all := lw_g (lw_at lw_m2 49 rfl) rfl
theorem q427 : (Jvm.Cond.fieldLink "GathersAllFaults$Reader" (60 : Nat) "GathersAllFaults$Reader" "parts" "I") ∈ lw_all := lw_g (lw_at lw_m2 50 rfl) rfl
theorem q428 : (Jvm.Cond.fieldLink "GathersAllFaults$Reader" (134 : Nat) "GathersAllFaults$Reader" "checks" "I") ∈ lw_all := lw_g (lw_at lw_m2 51 rfl) rfl
theorem q430 : (Jvm.Cond.fieldLink "GathersAllFaults$Reader" (168 : Nat) "GathersAllFaults$Reader" "agains" "I") ∈ lw_all := lw_g (lw_at lw_m2 53 rfl) rfl
theorem q431 : (Jvm.Cond.fieldLink "GathersAllFaults$Reader" (23 : Nat) "GathersAllFaults$Reader" "wrongAt" "I") ∈ lw_all := lw_g (lw_at lw_m2 54 rfl) rfl
theorem q432 : (Jvm.Cond.fieldLink "GathersAllFaults$Reader" (3 : Nat) "GathersAllFaults$Reader" "this$0" "LGathersAllFaults;") ∈ lw_all := lw_g (lw_at lw_m2 55 rfl) rfl
theorem q433 : (Jvm.Cond.laysFinal "GathersAllFaults$Reader" "GathersAllFaults$Reader" "size" "I") ∈ lw_all := lw_g (lw_at lw_m2 56 rfl) rfl
theorem q434 : (Jvm.Cond.soleField "GathersAllFaults$Reader" "size") ∈ lw_all := lw_g (lw_at lw_m2 57 rfl) rfl
theorem q435 : (Jvm.Cond.lays "GathersAllFaults$Reader" "GathersAllFaults$Reader" "at" "I") ∈ lw_all := lw_g (lw_at lw_m2 58 rfl) rfl
theorem q436 : (Jvm.Cond.soleField "GathersAllFaults$Reader" "at") ∈ lw_all := lw_g (lw_at lw_m2 59 rfl) rfl
theorem q437 : (Jvm.Cond.lays "GathersAllFaults$Reader" "GathersAllFaults$Reader" "parts" "I") ∈ lw_all := lw_g (lw_at lw_m2 60 rfl) rfl
theorem q438 : (Jvm.Cond.soleField "GathersAllFaults$Reader" "parts") ∈ lw_all := lw_g (lw_at lw_m2 61 rfl) rfl
theorem q439 : (Jvm.Cond.lays "GathersAllFaults$Reader" "GathersAllFaults$Reader" "checks" "I") ∈ lw_all := lw_g (lw_at lw_m2 62 rfl) rfl
theorem q440 : (Jvm.Cond.soleField "GathersAllFaults$Reader" "checks") ∈ lw_all := lw_g (lw_at lw_m2 63 rfl) rfl
theorem q441 : (Jvm.Cond.lays "GathersAllFaults$Reader" "GathersAllFaults$Reader" "agains" "I") ∈ lw_all := lw_g (lw_at lw_m2 64 rfl) rfl
theorem q442 : (Jvm.Cond.soleField "GathersAllFaults$Reader" "agains") ∈ lw_all := lw_g (lw_at lw_m2 65 rfl) rfl
theorem q443 : (Jvm.Cond.lays "GathersAllFaults$Reader" "GathersAllFaults$Reader" "wrongAt" "I") ∈ lw_all := lw_g (lw_at lw_m2 66 rfl) rfl
theorem q444 : (Jvm.Cond.soleField "GathersAllFaults$Reader" "wrongAt") ∈ lw_all := lw_g (lw_at lw_m2 67 rfl) rfl
theorem q445 : (Jvm.Cond.laysFinal "GathersAllFaults$Reader" "GathersAllFaults$Reader" "this$0" "LGathersAllFaults;") ∈ lw_all := lw_g (lw_at lw_m2 68 rfl) rfl
theorem q446 : (Jvm.Cond.soleField "GathersAllFaults$Reader" "this$0") ∈ lw_all := lw_g (lw_at lw_m2 69 rfl) rfl
theorem q447 : (Jvm.Cond.superclass "GathersAllFaults$Reader" "java/lang/Object") ∈ lw_all := lw_g (lw_at lw_m2 70 rfl) rfl
theorem q449 : (Jvm.Cond.instanceMethod ({ cls := "GathersAllFaults$Reader", name := "value", desc := "(I)LGathersAllFaults$Value;" } : Jvm.MethodName)) ∈ lw_all := lw_g (lw_at lw_m2 72 rfl) rfl
theorem q450 : (Jvm.Cond.selects "GathersAllFaults$Reader" ({ cls := "GathersAllFaults$Reader", name := "value", desc := "(I)LGathersAllFaults$Value;" } : Jvm.MethodName) ({ cls := "GathersAllFaults$Reader", name := "value", desc := "(I)LGathersAllFaults$Value;" } : Jvm.MethodName)) ∈ lw_all := lw_g (lw_at lw_m2 73 rfl) rfl
theorem q451 : (Jvm.Cond.code ({ cls := "GathersAllFaults$Reader", name := "value", desc := "(I)LGathersAllFaults$Value;" } : Jvm.MethodName) prog_15_method_9_code (5 : Nat) (Option.some (Jvm.ClassFile.FieldType.object "GathersAllFaults$Value"))) ∈ lw_all := lw_g (lw_at lw_m2 74 rfl) rfl
theorem q452 : (Jvm.Cond.methodLink "GathersAllFaults$Reader" (63 : Nat) ({ cls := "GathersAllFaults$Reader", name := "wrong", desc := "(ZI)V" } : Jvm.MethodName)) ∈ lw_all := lw_g (lw_at lw_m2 75 rfl) rfl
theorem q453 : (Jvm.Cond.privateMethod ({ cls := "GathersAllFaults$Reader", name := "wrong", desc := "(ZI)V" } : Jvm.MethodName)) ∈ lw_tbl := lw_at lw_m2 76 rfl
theorem q454 : (Jvm.Cond.instanceMethod ({ cls := "GathersAllFaults$Reader", name := "wrong", desc := "(ZI)V" } : Jvm.MethodName)) ∈ lw_all := lw_g (lw_at lw_m2 77 rfl) rfl
theorem q455 : (Jvm.Cond.code ({ cls := "GathersAllFaults$Reader", name := "wrong", desc := "(ZI)V" } : Jvm.MethodName) prog_15_method_6_code (3 : Nat) (Option.none : Option Jvm.ClassFile.FieldType)) ∈ lw_all := lw_g (lw_at lw_m2 78 rfl) rfl
theorem q456 : (Jvm.Cond.methodLink "GathersAllFaults$Reader" (54 : Nat) ({ cls := "java/lang/Math", name := "min", desc := "(II)I" } : Jvm.MethodName)) ∈ lw_all := lw_g (lw_at lw_m2 79 rfl) rfl
theorem q459 : (Jvm.Cond.methodLink "GathersAllFaults$Reader" (38 : Nat) ({ cls := "GathersAllFaults$Reader", name := "here", desc := "()I" } : Jvm.MethodName)) ∈ lw_all := lw_g (lw_at lw_m2 82 rfl) rfl
theorem q460 : (Jvm.Cond.privateMethod ({ cls := "GathersAllFaults$Reader", name := "here", desc := "()I" } : Jvm.MethodName)) ∈ lw_tbl := lw_at lw_m2 83 rfl
theorem q461 : (Jvm.Cond.instanceMethod ({ cls := "GathersAllFaults$Reader", name := "here", desc := "()I" } : Jvm.MethodName)) ∈ lw_all := lw_g (lw_at lw_m2 84 rfl) rfl
theorem q462 : (Jvm.Cond.code ({ cls := "GathersAllFaults$Reader", name := "here", desc := "()I" } : Jvm.MethodName) prog_15_method_2_code (1 : Nat) (Option.some Jvm.ClassFile.FieldType.int)) ∈ lw_all := lw_g (lw_at lw_m2 85 rfl) rfl
theorem q463 : (Jvm.Cond.constantLong "GathersAllFaults$Reader" (46 : Nat) (48 : Int64)) ∈ lw_all := lw_g (lw_at lw_m2 86 rfl) rfl
theorem q464 : (Jvm.Cond.constantLong "GathersAllFaults$Reader" (48 : Nat) (57 : Int64)) ∈ lw_all := lw_g (lw_at lw_m2 87 rfl) rfl
theorem q465 : (Jvm.Cond.methodLinkNest "GathersAllFaults$Reader" (50 : Nat) ({ cls := "GathersAllFaults", name := "in", desc := "(JJJ)Z" } : Jvm.MethodName) "GathersAllFaults") ∈ lw_tbl := lw_at lw_m2 88 rfl
theorem q468 : (Jvm.Cond.methodLink "GathersAllFaults$Reader" (67 : Nat) ({ cls := "GathersAllFaults$Reader", name := "digit", desc := "()I" } : Jvm.MethodName)) ∈ lw_all := lw_g (lw_at lw_m2 91 rfl) rfl
theorem q469 : (Jvm.Cond.privateMethod ({ cls := "GathersAllFaults$Reader", name := "digit", desc := "()I" } : Jvm.MethodName)) ∈ lw_tbl := lw_at lw_m2 92 rfl
theorem q470 : (Jvm.Cond.instanceMethod ({ cls := "GathersAllFaults$Reader", name := "digit", desc := "()I" } : Jvm.MethodName)) ∈ lw_all := lw_g (lw_at lw_m2 93 rfl) rfl
theorem q471 : (Jvm.Cond.code ({ cls := "GathersAllFaults$Reader", name := "digit", desc := "()I" } : Jvm.MethodName) prog_15_method_5_code (1 : Nat) (Option.some Jvm.ClassFile.FieldType.int)) ∈ lw_all := lw_g (lw_at lw_m2 94 rfl) rfl
theorem q472 : (Jvm.Cond.methodLink "GathersAllFaults$Reader" (42 : Nat) ({ cls := "GathersAllFaults$Reader", name := "mustStand", desc := "(Z)V" } : Jvm.MethodName)) ∈ lw_all := lw_g (lw_at lw_m2 95 rfl) rfl
theorem q473 : (Jvm.Cond.privateMethod ({ cls := "GathersAllFaults$Reader", name := "mustStand", desc := "(Z)V" } : Jvm.MethodName)) ∈ lw_tbl := lw_at lw_m2 96 rfl
theorem q474 : (Jvm.Cond.instanceMethod ({ cls := "GathersAllFaults$Reader", name := "mustStand", desc := "(Z)V" } : Jvm.MethodName)) ∈ lw_all := lw_g (lw_at lw_m2 97 rfl) rfl
theorem q475 : (Jvm.Cond.code ({ cls := "GathersAllFaults$Reader", name := "mustStand", desc := "(Z)V" } : Jvm.MethodName) prog_15_method_3_code (2 : Nat) (Option.none : Option Jvm.ClassFile.FieldType)) ∈ lw_all := lw_g (lw_at lw_m2 98 rfl) rfl
theorem q476 : (Jvm.Cond.classLink "GathersAllFaults$Reader" (33 : Nat) "GathersAllFaults$Fault") ∈ lw_all := lw_g (lw_at lw_m2 99 rfl) rfl
theorem q485 : (Jvm.Cond.methodLink "GathersAllFaults$Reader" (35 : Nat) ({ cls := "GathersAllFaults$Fault", name := "<init>", desc := "(I)V" } : Jvm.MethodName)) ∈ lw_all := lw_g (lw_at lw_m2 108 rfl) rfl
theorem q494 : (Jvm.Cond.classLink "GathersAllFaults$Reader" (70 : Nat) "GathersAllFaults$Num") ∈ lw_all := lw_g (lw_at lw_m2 117 rfl) rfl
theorem q495 : (Jvm.Cond.methodLink "GathersAllFaults$Reader" (72 : Nat) ({ cls := "GathersAllFaults$Num", name := "<init>", desc := "(I)V" } : Jvm.MethodName)) ∈ lw_all := lw_g (lw_at lw_m2 118 rfl) rfl
theorem q496 : (Jvm.Cond.classLink "GathersAllFaults$Reader" (73 : Nat) "GathersAllFaults$Nothing") ∈ lw_all := lw_g (lw_at lw_m2 119 rfl) rfl
theorem q497 : (Jvm.Cond.methodLinkNest "GathersAllFaults$Reader" (75 : Nat) ({ cls := "GathersAllFaults$Nothing", name := "<init>", desc := "()V" } : Jvm.MethodName) "GathersAllFaults") ∈ lw_tbl := lw_at lw_m2 120 rfl
theorem q498 : (Jvm.Cond.methodLink "GathersAllFaults$Reader" (76 : Nat) ({ cls := "GathersAllFaults$Reader", name := "rec", desc := "(I)LGathersAllFaults$Value;" } : Jvm.MethodName)) ∈ lw_all := lw_g (lw_at lw_m2 121 rfl) rfl
theorem q499 : (Jvm.Cond.privateMethod ({ cls := "GathersAllFaults$Reader", name := "rec", desc := "(I)LGathersAllFaults$Value;" } : Jvm.MethodName)) ∈ lw_tbl := lw_at lw_m2 122 rfl
theorem q500 : (Jvm.Cond.instanceMethod ({ cls := "GathersAllFaults$Reader", name := "rec", desc := "(I)LGathersAllFaults$Value;" } : Jvm.MethodName)) ∈ lw_all := lw_g (lw_at lw_m2 123 rfl) rfl
theorem q501 : (Jvm.Cond.code ({ cls := "GathersAllFaults$Reader", name := "rec", desc := "(I)LGathersAllFaults$Value;" } : Jvm.MethodName) prog_15_method_10_code (5 : Nat) (Option.some (Jvm.ClassFile.FieldType.object "GathersAllFaults$Value"))) ∈ lw_all := lw_g (lw_at lw_m2 124 rfl) rfl
theorem q502 : (Jvm.Cond.classLink "GathersAllFaults$Reader" (83 : Nat) "java/util/LinkedHashMap") ∈ lw_all := lw_g (lw_at lw_m2 125 rfl) rfl
theorem q504 : (Jvm.Cond.methodLink "GathersAllFaults$Reader" (85 : Nat) ({ cls := "java/util/LinkedHashMap", name := "<init>", desc := "()V" } : Jvm.MethodName)) ∈ lw_all := lw_g (lw_at lw_m2 127 rfl) rfl
theorem q561 : (Jvm.Cond.methodLink "GathersAllFaults$Reader" (86 : Nat) ({ cls := "GathersAllFaults$Reader", name := "name", desc := "()I" } : Jvm.MethodName)) ∈ lw_all := lw_g (lw_at lw_m2 184 rfl) rfl
theorem q562 : (Jvm.Cond.privateMethod ({ cls := "GathersAllFaults$Reader", name := "name", desc := "()I" } : Jvm.MethodName)) ∈ lw_tbl := lw_at lw_m2 185 rfl
theorem q563 : (Jvm.Cond.instanceMethod ({ cls := "GathersAllFaults$Reader", name := "name", desc := "()I" } : Jvm.MethodName)) ∈ lw_all := lw_g (lw_at lw_m2 186 rfl) rfl
theorem q564 : (Jvm.Cond.code ({ cls := "GathersAllFaults$Reader", name := "name", desc := "()I" } : Jvm.MethodName) prog_15_method_12_code (1 : Nat) (Option.some Jvm.ClassFile.FieldType.int)) ∈ lw_all := lw_g (lw_at lw_m2 187 rfl) rfl
theorem q565 : (Jvm.Cond.constantLong "GathersAllFaults$Reader" (130 : Nat) (97 : Int64)) ∈ lw_all := lw_g (lw_at lw_m2 188 rfl) rfl
theorem q566 : (Jvm.Cond.constantLong "GathersAllFaults$Reader" (132 : Nat) (101 : Int64)) ∈ lw_all := lw_g (lw_at lw_m2 189 rfl) rfl
theorem q567 : (Jvm.Cond.methodLink "GathersAllFaults$Reader" (89 : Nat) ({ cls := "java/lang/Integer", name := "valueOf", desc := "(I)Ljava/lang/Integer;" } : Jvm.MethodName)) ∈ lw_all := lw_g (lw_at lw_m2 190 rfl) rfl
theorem q587 : (Jvm.Cond.methodLink "GathersAllFaults$Reader" (95 : Nat) ({ cls := "java/util/LinkedHashMap", name := "containsKey", desc := "(Ljava/lang/Object;)Z" } : Jvm.MethodName)) ∈ lw_all := lw_g (lw_at lw_m2 210 rfl) rfl
theorem q648 : (Jvm.Cond.selects "GathersAllFaults$Reader" ({ cls := "java/lang/Object", name := "hashCode", desc := "()I" } : Jvm.MethodName) ({ cls := "java/lang/Object", name := "hashCode", desc := "()I" } : Jvm.MethodName)) ∈ lw_all := lw_g (lw_at lw_m3 31 rfl) rfl
theorem q713 : (Jvm.Cond.selects "GathersAllFaults$Reader" ({ cls := "java/lang/Object", name := "equals", desc := "(Ljava/lang/Object;)Z" } : Jvm.MethodName) ({ cls := "java/lang/Object", name := "equals", desc := "(Ljava/lang/Object;)Z" } : Jvm.MethodName)) ∈ lw_all := lw_g (lw_at lw_m3 96 rfl) rfl
theorem q762 : (Jvm.Cond.selects "GathersAllFaults$Reader" ({ cls := "java/lang/Object", name := "getClass", desc := "()Ljava/lang/Class;" } : Jvm.MethodName) ({ cls := "java/lang/Object", name := "getClass", desc := "()Ljava/lang/Class;" } : Jvm.MethodName)) ∈ lw_all := lw_g (lw_at lw_m3 145 rfl) rfl
theorem q804 : (Jvm.Cond.methodLink "GathersAllFaults$Reader" (99 : Nat) ({ cls := "GathersAllFaults$Reader", name := "under", desc := "(II)I" } : Jvm.MethodName)) ∈ lw_all := lw_g (lw_at lw_m3 187 rfl) rfl
theorem q805 : (Jvm.Cond.privateMethod ({ cls := "GathersAllFaults$Reader", name := "under", desc := "(II)I" } : Jvm.MethodName)) ∈ lw_tbl := lw_at lw_m3 188 rfl
theorem q806 : (Jvm.Cond.instanceMethod ({ cls := "GathersAllFaults$Reader", name := "under", desc := "(II)I" } : Jvm.MethodName)) ∈ lw_all := lw_g (lw_at lw_m3 189 rfl) rfl
theorem q807 : (Jvm.Cond.code ({ cls := "GathersAllFaults$Reader", name := "under", desc := "(II)I" } : Jvm.MethodName) prog_15_method_8_code (3 : Nat) (Option.some Jvm.ClassFile.FieldType.int)) ∈ lw_all := lw_g (lw_at lw_m3 190 rfl) rfl
theorem q808 : (Jvm.Cond.methodLink "GathersAllFaults$Reader" (102 : Nat) ({ cls := "GathersAllFaults$Reader", name := "value", desc := "(I)LGathersAllFaults$Value;" } : Jvm.MethodName)) ∈ lw_all := lw_g (lw_at lw_m3 191 rfl) rfl
theorem q809 : (Jvm.Cond.methodLink "GathersAllFaults$Reader" (105 : Nat) ({ cls := "java/util/LinkedHashMap", name := "put", desc := "(Ljava/lang/Object;Ljava/lang/Object;)Ljava/lang/Object;" } : Jvm.MethodName)) ∈ lw_all := lw_g (lw_at lw_m3 192 rfl) rfl
theorem q1015 : (Jvm.Cond.classLink "GathersAllFaults$Reader" (109 : Nat) "GathersAllFaults$Rec") ∈ lw_all := lw_g (lw_at lw_m4 158 rfl) rfl
theorem q1017 : (Jvm.Cond.methodLink "GathersAllFaults$Reader" (111 : Nat) ({ cls := "GathersAllFaults$Rec", name := "<init>", desc := "(Ljava/util/LinkedHashMap;)V" } : Jvm.MethodName)) ∈ lw_all := lw_g (lw_at lw_m4 160 rfl) rfl
theorem q1200 : (Jvm.Cond.methodLink "GathersAllFaults$Reader" (80 : Nat) ({ cls := "GathersAllFaults$Reader", name := "list", desc := "(I)LGathersAllFaults$Value;" } : Jvm.MethodName)) ∈ lw_all := lw_g (lw_at lw_m5 103 rfl) rfl
theorem q1201 : (Jvm.Cond.privateMethod ({ cls := "GathersAllFaults$Reader", name := "list", desc := "(I)LGathersAllFaults$Value;" } : Jvm.MethodName)) ∈ lw_tbl := lw_at lw_m5 104 rfl
theorem q1202 : (Jvm.Cond.instanceMethod ({ cls := "GathersAllFaults$Reader", name := "list", desc := "(I)LGathersAllFaults$Value;" } : Jvm.MethodName)) ∈ lw_all := lw_g (lw_at lw_m5 105 rfl) rfl
theorem q1203 : (Jvm.Cond.code ({ cls := "GathersAllFaults$Reader", name := "list", desc := "(I)LGathersAllFaults$Value;" } : Jvm.MethodName) prog_15_method_11_code (6 : Nat) (Option.some (Jvm.ClassFile.FieldType.object "GathersAllFaults$Value"))) ∈ lw_all := lw_g (lw_at lw_m5 106 rfl) rfl
theorem q1204 : (Jvm.Cond.classLink "GathersAllFaults$Reader" (114 : Nat) "GathersAllFaults$Value") ∈ lw_all := lw_g (lw_at lw_m5 107 rfl) rfl
theorem q1205 : (Jvm.Cond.methodLink "GathersAllFaults$Reader" (116 : Nat) ({ cls := "GathersAllFaults$Reader", name := "take", desc := "(I)V" } : Jvm.MethodName)) ∈ lw_all := lw_g (lw_at lw_m5 108 rfl) rfl
theorem q1206 : (Jvm.Cond.privateMethod ({ cls := "GathersAllFaults$Reader", name := "take", desc := "(I)V" } : Jvm.MethodName)) ∈ lw_tbl := lw_at lw_m5 109 rfl
theorem q1207 : (Jvm.Cond.instanceMethod ({ cls := "GathersAllFaults$Reader", name := "take", desc := "(I)V" } : Jvm.MethodName)) ∈ lw_all := lw_g (lw_at lw_m5 110 rfl) rfl
theorem q1208 : (Jvm.Cond.code ({ cls := "GathersAllFaults$Reader", name := "take", desc := "(I)V" } : Jvm.MethodName) prog_15_method_4_code (2 : Nat) (Option.none : Option Jvm.ClassFile.FieldType)) ∈ lw_all := lw_g (lw_at lw_m5 111 rfl) rfl
theorem q1209 : (Jvm.Cond.methodLink "GathersAllFaults$Reader" (119 : Nat) ({ cls := "java/lang/System", name := "arraycopy", desc := "(Ljava/lang/Object;ILjava/lang/Object;II)V" } : Jvm.MethodName)) ∈ lw_all := lw_g (lw_at lw_m5 112 rfl) rfl
theorem q1212 : (Jvm.Cond.classLink "GathersAllFaults$Reader" (125 : Nat) "GathersAllFaults$Lst") ∈ lw_all := lw_g (lw_at lw_m5 115 rfl) rfl
theorem q1214 : (Jvm.Cond.methodLink "GathersAllFaults$Reader" (127 : Nat) ({ cls := "GathersAllFaults$Lst", name := "<init>", desc := "([LGathersAllFaults$Value;)V" } : Jvm.MethodName)) ∈ lw_all := lw_g (lw_at lw_m5 117 rfl) rfl
theorem q1224 : (Jvm.Cond.privateMethod ({ cls := "GathersAllFaults$Reader", name := "end", desc := "()V" } : Jvm.MethodName)) ∈ lw_tbl := lw_at lw_m5 127 rfl
theorem q1225 : (Jvm.Cond.instanceMethod ({ cls := "GathersAllFaults$Reader", name := "end", desc := "()V" } : Jvm.MethodName)) ∈ lw_all := lw_g (lw_at lw_m5 128 rfl) rfl
theorem q1226 : (Jvm.Cond.code ({ cls := "GathersAllFaults$Reader", name := "end", desc := "()V" } : Jvm.MethodName) prog_15_method_7_code (1 : Nat) (Option.none : Option Jvm.ClassFile.FieldType)) ∈ lw_all := lw_g (lw_at lw_m5 129 rfl) rfl
theorem q1249 : (Jvm.Cond.instanceMethod ({ cls := "GathersAllFaults$Reader", name := "check", desc := "(LGathersAllFaults$Compiled;Z)LGathersAllFaults$Look;" } : Jvm.MethodName)) ∈ lw_all := lw_g (lw_at lw_m5 152 rfl) rfl
theorem q1250 : (Jvm.Cond.selects "GathersAllFaults$Reader" ({ cls := "GathersAllFaults$Reader", name := "check", desc := "(LGathersAllFaults$Compiled;Z)LGathersAllFaults$Look;" } : Jvm.MethodName) ({ cls := "GathersAllFaults$Reader", name := "check", desc := "(LGathersAllFaults$Compiled;Z)LGathersAllFaults$Look;" } : Jvm.MethodName)) ∈ lw_all := lw_g (lw_at lw_m5 153 rfl) rfl
theorem q1251 : (Jvm.Cond.code ({ cls := "GathersAllFaults$Reader", name := "check", desc := "(LGathersAllFaults$Compiled;Z)LGathersAllFaults$Look;" } : Jvm.MethodName) prog_15_method_14_code (10 : Nat) (Option.some (Jvm.ClassFile.FieldType.object "GathersAllFaults$Look"))) ∈ lw_all := lw_g (lw_at lw_m5 154 rfl) rfl
theorem q1252 : (Jvm.Cond.methodLink "GathersAllFaults$Reader" (137 : Nat) ({ cls := "GathersAllFaults$Reader", name := "pair", desc := "()I" } : Jvm.MethodName)) ∈ lw_all := lw_g (lw_at lw_m5 155 rfl) rfl
theorem q1253 : (Jvm.Cond.privateMethod ({ cls := "GathersAllFaults$Reader", name := "pair", desc := "()I" } : Jvm.MethodName)) ∈ lw_tbl := lw_at lw_m5 156 rfl
theorem q1254 : (Jvm.Cond.instanceMethod ({ cls := "GathersAllFaults$Reader", name := "pair", desc := "()I" } : Jvm.MethodName)) ∈ lw_all := lw_g (lw_at lw_m5 157 rfl) rfl
theorem q1255 : (Jvm.Cond.code ({ cls := "GathersAllFaults$Reader", name := "pair", desc := "()I" } : Jvm.MethodName) prog_15_method_13_code (2 : Nat) (Option.some Jvm.ClassFile.FieldType.int)) ∈ lw_all := lw_g (lw_at lw_m5 158 rfl) rfl
theorem q1256 : (Jvm.Cond.methodLinkNest "GathersAllFaults$Reader" (140 : Nat) ({ cls := "GathersAllFaults", name := "numberLook", desc := "(II)LGathersAllFaults$Look;" } : Jvm.MethodName) "GathersAllFaults") ∈ lw_tbl := lw_at lw_m5 159 rfl
theorem q1296 : (Jvm.Cond.methodLink "GathersAllFaults$Reader" (144 : Nat) ({ cls := "GathersAllFaults$Reader", name := "check", desc := "(LGathersAllFaults$Compiled;Z)LGathersAllFaults$Look;" } : Jvm.MethodName)) ∈ lw_all := lw_g (lw_at lw_m5 199 rfl) rfl
theorem q1297 : (Jvm.Cond.methodLinkNest "GathersAllFaults$Reader" (148 : Nat) ({ cls := "GathersAllFaults", name := "thereLook", desc := "(ZLGathersAllFaults$Look;)LGathersAllFaults$Look;" } : Jvm.MethodName) "GathersAllFaults") ∈ lw_tbl := lw_at lw_m5 200 rfl
theorem q1306 : (Jvm.Cond.methodLink "GathersAllFaults$Reader" (152 : Nat) ({ cls := "GathersAllFaults$Reader", name := "record", desc := "(LGathersAllFaults$Compiled;)LGathersAllFaults$Look;" } : Jvm.MethodName)) ∈ lw_all := lw_g (lw_at lw_m5 209 rfl) rfl
theorem q1307 : (Jvm.Cond.privateMethod ({ cls := "GathersAllFaults$Reader", name := "record", desc := "(LGathersAllFaults$Compiled;)LGathersAllFaults$Look;" } : Jvm.MethodName)) ∈ lw_tbl := lw_at lw_m5 210 rfl
theorem q1308 : (Jvm.Cond.instanceMethod ({ cls := "GathersAllFaults$Reader", name := "record", desc := "(LGathersAllFaults$Compiled;)LGathersAllFaults$Look;" } : Jvm.MethodName)) ∈ lw_all := lw_g (lw_at lw_m5 211 rfl) rfl
theorem q1309 : (Jvm.Cond.code ({ cls := "GathersAllFaults$Reader", name := "record", desc := "(LGathersAllFaults$Compiled;)LGathersAllFaults$Look;" } : Jvm.MethodName) prog_15_method_15_code (8 : Nat) (Option.some (Jvm.ClassFile.FieldType.object "GathersAllFaults$Look"))) ∈ lw_all := lw_g (lw_at lw_m5 212 rfl) rfl
theorem q1310 : (Jvm.Cond.classLink "GathersAllFaults$Reader" (179 : Nat) "GathersAllFaults$Spec") ∈ lw_all := lw_g (lw_at lw_m5 213 rfl) rfl
theorem q1312 : (Jvm.Cond.methodLinkNest "GathersAllFaults$Reader" (181 : Nat) ({ cls := "GathersAllFaults$Spec", name := "<init>", desc := "()V" } : Jvm.MethodName) "GathersAllFaults") ∈ lw_tbl := lw_at lw_m5 215 rfl
theorem q1333 : (Jvm.Cond.methodLink "GathersAllFaults$Reader" (182 : Nat) ({ cls := "GathersAllFaults$Spec", name := "isField", desc := "(I)Z" } : Jvm.MethodName)) ∈ lw_all := lw_g (lw_at lw_m5 236 rfl) rfl
theorem q1337 : (Jvm.Cond.methodLink "GathersAllFaults$Reader" (186 : Nat) ({ cls := "GathersAllFaults$Spec", name := "field", desc := "(IZLGathersAllFaults$Look;)V" } : Jvm.MethodName)) ∈ lw_all := lw_g (lw_at lw_m6 0 rfl) rfl
theorem q1359 : (Jvm.Cond.static ({ cls := "GathersAllFaults$Reader", name := "lambda$record$1", desc := "(LGathersAllFaults$Value;LGathersAllFaults$Value;)Z" } : Jvm.MethodName)) ∈ lw_all := lw_g (lw_at lw_m6 22 rfl) rfl
theorem q1360 : (Jvm.Cond.code ({ cls := "GathersAllFaults$Reader", name := "lambda$record$1", desc := "(LGathersAllFaults$Value;LGathersAllFaults$Value;)Z" } : Jvm.MethodName) prog_15_method_17_code (2 : Nat) (Option.some Jvm.ClassFile.FieldType.boolean)) ∈ lw_all := lw_g (lw_at lw_m6 23 rfl) rfl
theorem q1361 : (Jvm.Cond.methodLinkNest "GathersAllFaults$Reader" (205 : Nat) ({ cls := "GathersAllFaults", name := "isLess", desc := "(LGathersAllFaults$Value;LGathersAllFaults$Value;)Z" } : Jvm.MethodName) "GathersAllFaults") ∈ lw_tbl := lw_at lw_m6 24 rfl
theorem q1364 : (Jvm.Cond.static ({ cls := "GathersAllFaults$Reader", name := "lambda$record$2", desc := "(LGathersAllFaults$Value;LGathersAllFaults$Value;)Z" } : Jvm.MethodName)) ∈ lw_all := lw_g (lw_at lw_m6 27 rfl) rfl
theorem q1365 : (Jvm.Cond.code ({ cls := "GathersAllFaults$Reader", name := "lambda$record$2", desc := "(LGathersAllFaults$Value;LGathersAllFaults$Value;)Z" } : Jvm.MethodName) prog_15_method_16_code (2 : Nat) (Option.some Jvm.ClassFile.FieldType.boolean)) ∈ lw_all := lw_g (lw_at lw_m6 28 rfl) rfl
theorem q1366 : (Jvm.Cond.methodLink "GathersAllFaults$Reader" (202 : Nat) ({ cls := "GathersAllFaults$Value", name := "equals", desc := "(Ljava/lang/Object;)Z" } : Jvm.MethodName)) ∈ lw_all := lw_g (lw_at lw_m6 29 rfl) rfl
theorem q1367 : (Jvm.Cond.methodLink "GathersAllFaults$Reader" (195 : Nat) ({ cls := "GathersAllFaults$Spec", name := "hangs", desc := "(LGathersAllFaults$Both;III)V" } : Jvm.MethodName)) ∈ lw_all := lw_g (lw_at lw_m6 30 rfl) rfl
theorem q1393 : (Jvm.Cond.methodLink "GathersAllFaults$Reader" (199 : Nat) ({ cls := "GathersAllFaults$Spec", name := "look", desc := "()LGathersAllFaults$Look;" } : Jvm.MethodName)) ∈ lw_all := lw_g (lw_at lw_m6 56 rfl) rfl
theorem q1541 : (Jvm.Cond.methodLinkNest "GathersAllFaults$Reader" (156 : Nat) ({ cls := "GathersAllFaults", name := "listLook", desc := "(IILGathersAllFaults$Look;)LGathersAllFaults$Look;" } : Jvm.MethodName) "GathersAllFaults") ∈ lw_tbl := lw_at lw_m6 204 rfl
theorem q1551 : (Jvm.Cond.methodLinkNest "GathersAllFaults$Reader" (160 : Nat) ({ cls := "GathersAllFaults", name := "onceLook", desc := "(LGathersAllFaults$Look;)LGathersAllFaults$Look;" } : Jvm.MethodName) "GathersAllFaults") ∈ lw_tbl := lw_at lw_m6 214 rfl
theorem q1569 : (Jvm.Cond.methodLinkNest "GathersAllFaults$Reader" (164 : Nat) ({ cls := "GathersAllFaults", name := "eitherLook", desc := "(LGathersAllFaults$Look;LGathersAllFaults$Look;)LGathersAllFaults$Look;" } : Jvm.MethodName) "GathersAllFaults") ∈ lw_tbl := lw_at lw_m6 232 rfl
theorem q1574 : (Jvm.Cond.methodLink "GathersAllFaults$Reader" (171 : Nat) ({ cls := "GathersAllFaults$Compiled", name := "again", desc := "()LGathersAllFaults$Look;" } : Jvm.MethodName)) ∈ lw_all := lw_g (lw_at lw_m6 237 rfl) rfl
theorem q1583 : (Jvm.Cond.static ({ cls := "GathersAllFaults$Reader", name := "lambda$check$0", desc := "(LGathersAllFaults$Value;ILGathersAllFaults$Finding;)V" } : Jvm.MethodName)) ∈ lw_all := lw_g (lw_at lw_m7 6 rfl) rfl
theorem q1584 : (Jvm.Cond.code ({ cls := "GathersAllFaults$Reader", name := "lambda$check$0", desc := "(LGathersAllFaults$Value;ILGathersAllFaults$Finding;)V" } : Jvm.MethodName) prog_15_method_18_code (3 : Nat) (Option.none : Option Jvm.ClassFile.FieldType)) ∈ lw_all := lw_g (lw_at lw_m7 7 rfl) rfl
theorem q2746 : (Jvm.Cond.castable "GathersAllFaults$Reader" "java/lang/Object") ∈ lw_tbl := lw_at lw_m11 209 rfl
theorem in_X9 : ∀ w ∈ wsX90, w ∈ lw_all := lw_in wsX90 [433, 435, 437, 439, 441, 443, 445] (by decide +kernel) (by decide +kernel)

/-! GathersAllFaults$Fault -/
set_option maxRecDepth 100000
def RX10 : String := "GathersAllFaults$Fault"
def TX10 : u_T := fun k => match k with
  | 0 => ("java/lang/Throwable", "cause", "Ljava/lang/Throwable;", false)
  | 1 => ("java/lang/Throwable", "stackTrace", "[Ljava/lang/StackTraceElement;", false)
  | 2 => ("java/lang/Throwable", "suppressedExceptions", "Ljava/util/List;", false)
  | 3 => ("java/lang/Throwable", "detailMessage", "Ljava/lang/String;", false)
  | 4 => ("java/lang/Throwable", "backtrace", "Ljava/lang/Object;", false)
  | 5 => ("java/lang/Throwable", "depth", "I", false)
  | _ => ("GathersAllFaults$Fault", "told", "I", true)
def tyX10 : Nat → FieldType := fun k => match k with
  | 0 => .object "java/lang/Throwable"
  | 1 => .array (.object "java/lang/StackTraceElement")
  | 2 => .object "java/util/List"
  | 3 => .object "java/lang/String"
  | 4 => .object "java/lang/Object"
  | 5 => .int
  | _ => .int
abbrev wsX100 : List Cond := u_ws RX10 TX10 7
theorem nmX10 : ∀ a, a < 7 → ∀ b, b < 7 → a ≠ b → (TX10 a).2.1 ≠ (TX10 b).2.1 := by decide +kernel
theorem tyX10_ok : ∀ k, k < 7 → parseFieldDescriptor (TX10 k).2.2.1 = some (tyX10 k) := by decide +kernel
abbrev cX10_init : ByteArray := prog_4_method_1_code
def yX10_init : MethodName := ⟨RX10, "<init>", "(I)V"⟩
def dkwX10_init_0 : List UInt8 := [42, 183, 0, 1, 42, 27, 181, 0, 7, 177]
abbrev dktX10_init_0 : List UInt8 := dkwX10_init_0 ++ []
theorem dksX10_init_0 : cX10_init.data.toList.drop 0 = dktX10_init_0 := by decide +kernel
theorem dX10_init_0 : decode cX10_init 0 = .ok (.aload_n 0, 1) := dk_42 (dk_at dksX10_init_0 0 rfl rfl)
theorem dX10_init_1 : decode cX10_init 1 = .ok (.invokespecial 1, 3) := dk_183 0 1 (dk_at dksX10_init_0 1 rfl rfl)
theorem dX10_init_4 : decode cX10_init 4 = .ok (.aload_n 0, 1) := dk_42 (dk_at dksX10_init_0 4 rfl rfl)
theorem dX10_init_5 : decode cX10_init 5 = .ok (.iload_n 1, 1) := dk_27 (dk_at dksX10_init_0 5 rfl rfl)
theorem dX10_init_6 : decode cX10_init 6 = .ok (.putfield 7, 3) := dk_181 0 7 (dk_at dksX10_init_0 6 rfl rfl)
theorem dX10_init_9 : decode cX10_init 9 = .ok (.return_, 1) := dk_177 (dk_at dksX10_init_0 9 rfl rfl)
abbrev cX10_number : ByteArray := prog_4_method_2_code
def yX10_number : MethodName := ⟨RX10, "number", "()I"⟩
theorem dX10_number_0 : decode cX10_number 0 = .ok (.aload_n 0, 1) := by decide +kernel
theorem dX10_number_1 : decode cX10_number 1 = .ok (.getfield 7, 3) := by decide +kernel
theorem dX10_number_4 : decode cX10_number 4 = .ok (.ireturn, 1) := by decide +kernel
theorem q152 : (Jvm.Cond.initialized "GathersAllFaults$Fault") ∈ lw_all := lw_g (lw_at lw_m1 15 rfl) rfl
theorem q377 : (Jvm.Cond.selects "GathersAllFaults$Fault" ({ cls := "java/lang/Throwable", name := "fillInStackTrace", desc := "()Ljava/lang/Throwable;" } : Jvm.MethodName) ({ cls := "java/lang/Throwable", name := "fillInStackTrace", desc := "()Ljava/lang/Throwable;" } : Jvm.MethodName)) ∈ lw_all := lw_g (lw_at lw_m2 0 rfl) rfl
theorem q477 : (Jvm.Cond.instantiable "GathersAllFaults$Fault" (7 : Nat)) ∈ lw_all := lw_g (lw_at lw_m2 100 rfl) rfl
theorem q478 : (Jvm.Cond.castable "GathersAllFaults$Fault" "GathersAllFaults$Fault") ∈ lw_tbl := lw_at lw_m2 101 rfl
theorem q479 : (Jvm.Cond.selects "GathersAllFaults$Fault" ({ cls := "java/lang/Throwable", name := "fillInStackTrace", desc := "(I)Ljava/lang/Throwable;" } : Jvm.MethodName) ({ cls := "java/lang/Throwable", name := "fillInStackTrace", desc := "(I)Ljava/lang/Throwable;" } : Jvm.MethodName)) ∈ lw_all := lw_g (lw_at lw_m2 102 rfl) rfl
theorem q480 : (Jvm.Cond.lays "GathersAllFaults$Fault" "java/lang/Throwable" "cause" "Ljava/lang/Throwable;") ∈ lw_all := lw_g (lw_at lw_m2 103 rfl) rfl
theorem q481 : (Jvm.Cond.lays "GathersAllFaults$Fault" "java/lang/Throwable" "stackTrace" "[Ljava/lang/StackTraceElement;") ∈ lw_all := lw_g (lw_at lw_m2 104 rfl) rfl
theorem q482 : (Jvm.Cond.lays "GathersAllFaults$Fault" "java/lang/Throwable" "suppressedExceptions" "Ljava/util/List;") ∈ lw_all := lw_g (lw_at lw_m2 105 rfl) rfl
theorem q483 : (Jvm.Cond.lays "GathersAllFaults$Fault" "java/lang/Throwable" "detailMessage" "Ljava/lang/String;") ∈ lw_all := lw_g (lw_at lw_m2 106 rfl) rfl
theorem q484 : (Jvm.Cond.lays "GathersAllFaults$Fault" "java/lang/Throwable" "backtrace" "Ljava/lang/Object;") ∈ lw_all := lw_g (lw_at lw_m2 107 rfl) rfl
theorem q486 : (Jvm.Cond.instanceMethod ({ cls := "GathersAllFaults$Fault", name := "<init>", desc := "(I)V" } : Jvm.MethodName)) ∈ lw_all := lw_g (lw_at lw_m2 109 rfl) rfl
theorem q487 : (Jvm.Cond.code ({ cls := "GathersAllFaults$Fault", name := "<init>", desc := "(I)V" } : Jvm.MethodName) prog_4_method_1_code (2 : Nat) (Option.none : Option Jvm.ClassFile.FieldType)) ∈ lw_all := lw_g (lw_at lw_m2 110 rfl) rfl
theorem q488 : (Jvm.Cond.methodLinkNest "GathersAllFaults$Fault" (1 : Nat) ({ cls := "GathersAllFaults$Refusal", name := "<init>", desc := "()V" } : Jvm.MethodName) "GathersAllFaults") ∈ lw_tbl := lw_at lw_m2 111 rfl
theorem q489 : (Jvm.Cond.fieldLink "GathersAllFaults$Fault" (7 : Nat) "GathersAllFaults$Fault" "told" "I") ∈ lw_all := lw_g (lw_at lw_m2 112 rfl) rfl
theorem q490 : (Jvm.Cond.laysFinal "GathersAllFaults$Fault" "GathersAllFaults$Fault" "told" "I") ∈ lw_all := lw_g (lw_at lw_m2 113 rfl) rfl
theorem q491 : (Jvm.Cond.soleField "GathersAllFaults$Fault" "told") ∈ lw_all := lw_g (lw_at lw_m2 114 rfl) rfl
theorem q492 : (Jvm.Cond.lays "GathersAllFaults$Fault" "java/lang/Throwable" "depth" "I") ∈ lw_all := lw_g (lw_at lw_m2 115 rfl) rfl
theorem q493 : (Jvm.Cond.superclass "GathersAllFaults$Fault" "GathersAllFaults$Refusal") ∈ lw_all := lw_g (lw_at lw_m2 116 rfl) rfl
theorem q608 : (Jvm.Cond.selects "GathersAllFaults$Fault" ({ cls := "java/lang/Object", name := "hashCode", desc := "()I" } : Jvm.MethodName) ({ cls := "java/lang/Object", name := "hashCode", desc := "()I" } : Jvm.MethodName)) ∈ lw_all := lw_g (lw_at lw_m2 231 rfl) rfl
theorem q670 : (Jvm.Cond.selects "GathersAllFaults$Fault" ({ cls := "java/lang/Object", name := "equals", desc := "(Ljava/lang/Object;)Z" } : Jvm.MethodName) ({ cls := "java/lang/Object", name := "equals", desc := "(Ljava/lang/Object;)Z" } : Jvm.MethodName)) ∈ lw_all := lw_g (lw_at lw_m3 53 rfl) rfl
theorem q753 : (Jvm.Cond.selects "GathersAllFaults$Fault" ({ cls := "java/lang/Object", name := "getClass", desc := "()Ljava/lang/Class;" } : Jvm.MethodName) ({ cls := "java/lang/Object", name := "getClass", desc := "()Ljava/lang/Class;" } : Jvm.MethodName)) ∈ lw_all := lw_g (lw_at lw_m3 136 rfl) rfl
theorem q1932 : (Jvm.Cond.selects "GathersAllFaults$Fault" ({ cls := "GathersAllFaults$Refusal", name := "number", desc := "()I" } : Jvm.MethodName) ({ cls := "GathersAllFaults$Fault", name := "number", desc := "()I" } : Jvm.MethodName)) ∈ lw_all := lw_g (lw_at lw_m8 115 rfl) rfl
theorem q1933 : (Jvm.Cond.instanceMethod ({ cls := "GathersAllFaults$Fault", name := "number", desc := "()I" } : Jvm.MethodName)) ∈ lw_all := lw_g (lw_at lw_m8 116 rfl) rfl
theorem q1934 : (Jvm.Cond.code ({ cls := "GathersAllFaults$Fault", name := "number", desc := "()I" } : Jvm.MethodName) prog_4_method_2_code (1 : Nat) (Option.some Jvm.ClassFile.FieldType.int)) ∈ lw_all := lw_g (lw_at lw_m8 117 rfl) rfl
theorem q2730 : (Jvm.Cond.castable "GathersAllFaults$Fault" "GathersAllFaults$Refusal") ∈ lw_tbl := lw_at lw_m11 193 rfl
theorem q2747 : (Jvm.Cond.castable "GathersAllFaults$Fault" "java/lang/Object") ∈ lw_tbl := lw_at lw_m11 210 rfl
theorem in_X10 : ∀ w ∈ wsX100, w ∈ lw_all := lw_in wsX100 [480, 481, 482, 483, 484, 492, 490] (by decide +kernel) (by decide +kernel)

/-! GathersAllFaults$Rec -/
set_option maxRecDepth 100000
def RX11 : String := "GathersAllFaults$Rec"
def TX11 : u_T := fun k => match k with
  | 0 => ("GathersAllFaults$Rec", "fields", "Ljava/util/LinkedHashMap;", true)
  | _ => ("GathersAllFaults$Rec", "steps", "[I", true)
def tyX11 : Nat → FieldType := fun k => match k with
  | 0 => .object "java/util/LinkedHashMap"
  | _ => .array .int
abbrev wsX110 : List Cond := u_ws RX11 TX11 2
theorem nmX11 : ∀ a, a < 2 → ∀ b, b < 2 → a ≠ b → (TX11 a).2.1 ≠ (TX11 b).2.1 := by decide +kernel
theorem tyX11_ok : ∀ k, k < 2 → parseFieldDescriptor (TX11 k).2.2.1 = some (tyX11 k) := by decide +kernel
abbrev cX11_hashCode : ByteArray := prog_16_method_10_code
def yX11_hashCode : MethodName := ⟨RX11, "hashCode", "()I"⟩
def dkwX11_hashCode_2 : List UInt8 := [182, 0, 83, 16, 13, 96, 104, 96, 60, 132, 4, 1, 167, 255, 210, 27, 172]
abbrev dktX11_hashCode_2 : List UInt8 := dkwX11_hashCode_2 ++ []
def dkwX11_hashCode_1 : List UInt8 := [54, 5, 27, 5, 21, 5, 104, 4, 96, 42, 180, 0, 7, 21, 5, 184, 0, 48, 182, 0, 52, 192, 0, 2]
abbrev dktX11_hashCode_1 : List UInt8 := dkwX11_hashCode_1 ++ dktX11_hashCode_2
def dkwX11_hashCode_0 : List UInt8 := [16, 101, 60, 42, 180, 0, 19, 77, 44, 190, 62, 3, 54, 4, 21, 4, 29, 162, 0, 46, 44, 21, 4, 46]
abbrev dktX11_hashCode_0 : List UInt8 := dkwX11_hashCode_0 ++ dktX11_hashCode_1
theorem dksX11_hashCode_0 : cX11_hashCode.data.toList.drop 0 = dktX11_hashCode_0 := by decide +kernel
theorem dksX11_hashCode_1 : cX11_hashCode.data.toList.drop 24 = dktX11_hashCode_1 := dk_seg dksX11_hashCode_0 24 rfl rfl
theorem dksX11_hashCode_2 : cX11_hashCode.data.toList.drop 48 = dktX11_hashCode_2 := dk_seg dksX11_hashCode_1 24 rfl rfl
theorem dX11_hashCode_0 : decode cX11_hashCode 0 = .ok (.bipush 101, 2) := dk_16 101 (dk_at dksX11_hashCode_0 0 rfl rfl)
theorem dX11_hashCode_2 : decode cX11_hashCode 2 = .ok (.istore_n 1, 1) := dk_60 (dk_at dksX11_hashCode_0 2 rfl rfl)
theorem dX11_hashCode_3 : decode cX11_hashCode 3 = .ok (.aload_n 0, 1) := dk_42 (dk_at dksX11_hashCode_0 3 rfl rfl)
theorem dX11_hashCode_4 : decode cX11_hashCode 4 = .ok (.getfield 19, 3) := dk_180 0 19 (dk_at dksX11_hashCode_0 4 rfl rfl)
theorem dX11_hashCode_7 : decode cX11_hashCode 7 = .ok (.astore_n 2, 1) := dk_77 (dk_at dksX11_hashCode_0 7 rfl rfl)
theorem dX11_hashCode_8 : decode cX11_hashCode 8 = .ok (.aload_n 2, 1) := dk_44 (dk_at dksX11_hashCode_0 8 rfl rfl)
theorem dX11_hashCode_9 : decode cX11_hashCode 9 = .ok (.arraylength, 1) := dk_190 (dk_at dksX11_hashCode_0 9 rfl rfl)
theorem dX11_hashCode_10 : decode cX11_hashCode 10 = .ok (.istore_n 3, 1) := dk_62 (dk_at dksX11_hashCode_0 10 rfl rfl)
theorem dX11_hashCode_11 : decode cX11_hashCode 11 = .ok (.iconst 0, 1) := dk_3 (dk_at dksX11_hashCode_0 11 rfl rfl)
theorem dX11_hashCode_12 : decode cX11_hashCode 12 = .ok (.istore 4, 2) := dk_54 4 (dk_at dksX11_hashCode_0 12 rfl rfl)
theorem dX11_hashCode_14 : decode cX11_hashCode 14 = .ok (.iload 4, 2) := dk_21 4 (dk_at dksX11_hashCode_0 14 rfl rfl)
theorem dX11_hashCode_16 : decode cX11_hashCode 16 = .ok (.iload_n 3, 1) := dk_29 (dk_at dksX11_hashCode_0 16 rfl rfl)
theorem dX11_hashCode_17 : decode cX11_hashCode 17 = .ok (.if_icmp .ge 46, 3) := dk_162 0 46 (dk_at dksX11_hashCode_0 17 rfl rfl)
theorem dX11_hashCode_20 : decode cX11_hashCode 20 = .ok (.aload_n 2, 1) := dk_44 (dk_at dksX11_hashCode_0 20 rfl rfl)
theorem dX11_hashCode_21 : decode cX11_hashCode 21 = .ok (.iload 4, 2) := dk_21 4 (dk_at dksX11_hashCode_0 21 rfl rfl)
theorem dX11_hashCode_23 : decode cX11_hashCode 23 = .ok (.iaload, 1) := dk_46 (dk_at dksX11_hashCode_0 23 rfl rfl)
theorem dX11_hashCode_24 : decode cX11_hashCode 24 = .ok (.istore 5, 2) := dk_54 5 (dk_at dksX11_hashCode_1 0 rfl rfl)
theorem dX11_hashCode_26 : decode cX11_hashCode 26 = .ok (.iload_n 1, 1) := dk_27 (dk_at dksX11_hashCode_1 2 rfl rfl)
theorem dX11_hashCode_27 : decode cX11_hashCode 27 = .ok (.iconst 2, 1) := dk_5 (dk_at dksX11_hashCode_1 3 rfl rfl)
theorem dX11_hashCode_28 : decode cX11_hashCode 28 = .ok (.iload 5, 2) := dk_21 5 (dk_at dksX11_hashCode_1 4 rfl rfl)
theorem dX11_hashCode_30 : decode cX11_hashCode 30 = .ok (.imul, 1) := dk_104 (dk_at dksX11_hashCode_1 6 rfl rfl)
theorem dX11_hashCode_31 : decode cX11_hashCode 31 = .ok (.iconst 1, 1) := dk_4 (dk_at dksX11_hashCode_1 7 rfl rfl)
theorem dX11_hashCode_32 : decode cX11_hashCode 32 = .ok (.iadd, 1) := dk_96 (dk_at dksX11_hashCode_1 8 rfl rfl)
theorem dX11_hashCode_33 : decode cX11_hashCode 33 = .ok (.aload_n 0, 1) := dk_42 (dk_at dksX11_hashCode_1 9 rfl rfl)
theorem dX11_hashCode_34 : decode cX11_hashCode 34 = .ok (.getfield 7, 3) := dk_180 0 7 (dk_at dksX11_hashCode_1 10 rfl rfl)
theorem dX11_hashCode_37 : decode cX11_hashCode 37 = .ok (.iload 5, 2) := dk_21 5 (dk_at dksX11_hashCode_1 13 rfl rfl)
theorem dX11_hashCode_39 : decode cX11_hashCode 39 = .ok (.invokestatic 48, 3) := dk_184 0 48 (dk_at dksX11_hashCode_1 15 rfl rfl)
theorem dX11_hashCode_42 : decode cX11_hashCode 42 = .ok (.invokevirtual 52, 3) := dk_182 0 52 (dk_at dksX11_hashCode_1 18 rfl rfl)
theorem dX11_hashCode_45 : decode cX11_hashCode 45 = .ok (.checkcast 2, 3) := dk_192 0 2 (dk_at dksX11_hashCode_1 21 rfl rfl)
theorem dX11_hashCode_48 : decode cX11_hashCode 48 = .ok (.invokevirtual 83, 3) := dk_182 0 83 (dk_at dksX11_hashCode_2 0 rfl rfl)
theorem dX11_hashCode_51 : decode cX11_hashCode 51 = .ok (.bipush 13, 2) := dk_16 13 (dk_at dksX11_hashCode_2 3 rfl rfl)
theorem dX11_hashCode_53 : decode cX11_hashCode 53 = .ok (.iadd, 1) := dk_96 (dk_at dksX11_hashCode_2 5 rfl rfl)
theorem dX11_hashCode_54 : decode cX11_hashCode 54 = .ok (.imul, 1) := dk_104 (dk_at dksX11_hashCode_2 6 rfl rfl)
theorem dX11_hashCode_55 : decode cX11_hashCode 55 = .ok (.iadd, 1) := dk_96 (dk_at dksX11_hashCode_2 7 rfl rfl)
theorem dX11_hashCode_56 : decode cX11_hashCode 56 = .ok (.istore_n 1, 1) := dk_60 (dk_at dksX11_hashCode_2 8 rfl rfl)
theorem dX11_hashCode_57 : decode cX11_hashCode 57 = .ok (.iinc 4 1, 3) := dk_132 4 1 (dk_at dksX11_hashCode_2 9 rfl rfl)
theorem dX11_hashCode_60 : decode cX11_hashCode 60 = .ok (.goto (-46), 3) := dk_167 255 210 (dk_at dksX11_hashCode_2 12 rfl rfl)
theorem dX11_hashCode_63 : decode cX11_hashCode 63 = .ok (.iload_n 1, 1) := dk_27 (dk_at dksX11_hashCode_2 15 rfl rfl)
theorem dX11_hashCode_64 : decode cX11_hashCode 64 = .ok (.ireturn, 1) := dk_172 (dk_at dksX11_hashCode_2 16 rfl rfl)
abbrev cX11_equals : ByteArray := prog_16_method_9_code
def yX11_equals : MethodName := ⟨RX11, "equals", "(Ljava/lang/Object;)Z"⟩
def dkwX11_equals_3 : List UInt8 := [182, 0, 79, 154, 0, 5, 3, 172, 132, 5, 1, 167, 255, 211, 4, 172]
abbrev dktX11_equals_3 : List UInt8 := dkwX11_equals_3 ++ []
def dkwX11_equals_2 : List UInt8 := [54, 6, 42, 180, 0, 7, 21, 6, 184, 0, 48, 182, 0, 52, 192, 0, 2, 44, 21, 6, 182, 0, 75]
abbrev dktX11_equals_2 : List UInt8 := dkwX11_equals_2 ++ dktX11_equals_3
def dkwX11_equals_1 : List UInt8 := [172, 42, 180, 0, 19, 78, 45, 190, 54, 4, 3, 54, 5, 21, 5, 21, 4, 162, 0, 44, 45, 21, 5, 46]
abbrev dktX11_equals_1 : List UInt8 := dkwX11_equals_1 ++ dktX11_equals_2
def dkwX11_equals_0 : List UInt8 := [43, 193, 0, 8, 153, 0, 19, 43, 192, 0, 8, 77, 44, 182, 0, 72, 42, 182, 0, 72, 159, 0, 5, 3]
abbrev dktX11_equals_0 : List UInt8 := dkwX11_equals_0 ++ dktX11_equals_1
theorem dksX11_equals_0 : cX11_equals.data.toList.drop 0 = dktX11_equals_0 := by decide +kernel
theorem dksX11_equals_1 : cX11_equals.data.toList.drop 24 = dktX11_equals_1 := dk_seg dksX11_equals_0 24 rfl rfl
theorem dksX11_equals_2 : cX11_equals.data.toList.drop 48 = dktX11_equals_2 := dk_seg dksX11_equals_1 24 rfl rfl
theorem dksX11_equals_3 : cX11_equals.data.toList.drop 71 = dktX11_equals_3 := dk_seg dksX11_equals_2 23 rfl rfl
theorem dX11_equals_0 : decode cX11_equals 0 = .ok (.aload_n 1, 1) := dk_43 (dk_at dksX11_equals_0 0 rfl rfl)
theorem dX11_equals_1 : decode cX11_equals 1 = .ok (.instanceof 8, 3) := dk_193 0 8 (dk_at dksX11_equals_0 1 rfl rfl)
theorem dX11_equals_4 : decode cX11_equals 4 = .ok (.ifCond .eq 19, 3) := dk_153 0 19 (dk_at dksX11_equals_0 4 rfl rfl)
theorem dX11_equals_7 : decode cX11_equals 7 = .ok (.aload_n 1, 1) := dk_43 (dk_at dksX11_equals_0 7 rfl rfl)
theorem dX11_equals_8 : decode cX11_equals 8 = .ok (.checkcast 8, 3) := dk_192 0 8 (dk_at dksX11_equals_0 8 rfl rfl)
theorem dX11_equals_11 : decode cX11_equals 11 = .ok (.astore_n 2, 1) := dk_77 (dk_at dksX11_equals_0 11 rfl rfl)
theorem dX11_equals_12 : decode cX11_equals 12 = .ok (.aload_n 2, 1) := dk_44 (dk_at dksX11_equals_0 12 rfl rfl)
theorem dX11_equals_13 : decode cX11_equals 13 = .ok (.invokevirtual 72, 3) := dk_182 0 72 (dk_at dksX11_equals_0 13 rfl rfl)
theorem dX11_equals_16 : decode cX11_equals 16 = .ok (.aload_n 0, 1) := dk_42 (dk_at dksX11_equals_0 16 rfl rfl)
theorem dX11_equals_17 : decode cX11_equals 17 = .ok (.invokevirtual 72, 3) := dk_182 0 72 (dk_at dksX11_equals_0 17 rfl rfl)
theorem dX11_equals_20 : decode cX11_equals 20 = .ok (.if_icmp .eq 5, 3) := dk_159 0 5 (dk_at dksX11_equals_0 20 rfl rfl)
theorem dX11_equals_23 : decode cX11_equals 23 = .ok (.iconst 0, 1) := dk_3 (dk_at dksX11_equals_0 23 rfl rfl)
theorem dX11_equals_24 : decode cX11_equals 24 = .ok (.ireturn, 1) := dk_172 (dk_at dksX11_equals_1 0 rfl rfl)
theorem dX11_equals_25 : decode cX11_equals 25 = .ok (.aload_n 0, 1) := dk_42 (dk_at dksX11_equals_1 1 rfl rfl)
theorem dX11_equals_26 : decode cX11_equals 26 = .ok (.getfield 19, 3) := dk_180 0 19 (dk_at dksX11_equals_1 2 rfl rfl)
theorem dX11_equals_29 : decode cX11_equals 29 = .ok (.astore_n 3, 1) := dk_78 (dk_at dksX11_equals_1 5 rfl rfl)
theorem dX11_equals_30 : decode cX11_equals 30 = .ok (.aload_n 3, 1) := dk_45 (dk_at dksX11_equals_1 6 rfl rfl)
theorem dX11_equals_31 : decode cX11_equals 31 = .ok (.arraylength, 1) := dk_190 (dk_at dksX11_equals_1 7 rfl rfl)
theorem dX11_equals_32 : decode cX11_equals 32 = .ok (.istore 4, 2) := dk_54 4 (dk_at dksX11_equals_1 8 rfl rfl)
theorem dX11_equals_34 : decode cX11_equals 34 = .ok (.iconst 0, 1) := dk_3 (dk_at dksX11_equals_1 10 rfl rfl)
theorem dX11_equals_35 : decode cX11_equals 35 = .ok (.istore 5, 2) := dk_54 5 (dk_at dksX11_equals_1 11 rfl rfl)
theorem dX11_equals_37 : decode cX11_equals 37 = .ok (.iload 5, 2) := dk_21 5 (dk_at dksX11_equals_1 13 rfl rfl)
theorem dX11_equals_39 : decode cX11_equals 39 = .ok (.iload 4, 2) := dk_21 4 (dk_at dksX11_equals_1 15 rfl rfl)
theorem dX11_equals_41 : decode cX11_equals 41 = .ok (.if_icmp .ge 44, 3) := dk_162 0 44 (dk_at dksX11_equals_1 17 rfl rfl)
theorem dX11_equals_44 : decode cX11_equals 44 = .ok (.aload_n 3, 1) := dk_45 (dk_at dksX11_equals_1 20 rfl rfl)
theorem dX11_equals_45 : decode cX11_equals 45 = .ok (.iload 5, 2) := dk_21 5 (dk_at dksX11_equals_1 21 rfl rfl)
theorem dX11_equals_47 : decode cX11_equals 47 = .ok (.iaload, 1) := dk_46 (dk_at dksX11_equals_1 23 rfl rfl)
theorem dX11_equals_48 : decode cX11_equals 48 = .ok (.istore 6, 2) := dk_54 6 (dk_at dksX11_equals_2 0 rfl rfl)
theorem dX11_equals_50 : decode cX11_equals 50 = .ok (.aload_n 0, 1) := dk_42 (dk_at dksX11_equals_2 2 rfl rfl)
theorem dX11_equals_51 : decode cX11_equals 51 = .ok (.getfield 7, 3) := dk_180 0 7 (dk_at dksX11_equals_2 3 rfl rfl)
theorem dX11_equals_54 : decode cX11_equals 54 = .ok (.iload 6, 2) := dk_21 6 (dk_at dksX11_equals_2 6 rfl rfl)
theorem dX11_equals_56 : decode cX11_equals 56 = .ok (.invokestatic 48, 3) := dk_184 0 48 (dk_at dksX11_equals_2 8 rfl rfl)
theorem dX11_equals_59 : decode cX11_equals 59 = .ok (.invokevirtual 52, 3) := dk_182 0 52 (dk_at dksX11_equals_2 11 rfl rfl)
theorem dX11_equals_62 : decode cX11_equals 62 = .ok (.checkcast 2, 3) := dk_192 0 2 (dk_at dksX11_equals_2 14 rfl rfl)
theorem dX11_equals_65 : decode cX11_equals 65 = .ok (.aload_n 2, 1) := dk_44 (dk_at dksX11_equals_2 17 rfl rfl)
theorem dX11_equals_66 : decode cX11_equals 66 = .ok (.iload 6, 2) := dk_21 6 (dk_at dksX11_equals_2 18 rfl rfl)
theorem dX11_equals_68 : decode cX11_equals 68 = .ok (.invokevirtual 75, 3) := dk_182 0 75 (dk_at dksX11_equals_2 20 rfl rfl)
theorem dX11_equals_71 : decode cX11_equals 71 = .ok (.invokevirtual 79, 3) := dk_182 0 79 (dk_at dksX11_equals_3 0 rfl rfl)
theorem dX11_equals_74 : decode cX11_equals 74 = .ok (.ifCond .ne 5, 3) := dk_154 0 5 (dk_at dksX11_equals_3 3 rfl rfl)
theorem dX11_equals_77 : decode cX11_equals 77 = .ok (.iconst 0, 1) := dk_3 (dk_at dksX11_equals_3 6 rfl rfl)
theorem dX11_equals_78 : decode cX11_equals 78 = .ok (.ireturn, 1) := dk_172 (dk_at dksX11_equals_3 7 rfl rfl)
theorem dX11_equals_79 : decode cX11_equals 79 = .ok (.iinc 5 1, 3) := dk_132 5 1 (dk_at dksX11_equals_3 8 rfl rfl)
theorem dX11_equals_82 : decode cX11_equals 82 = .ok (.goto (-45), 3) := dk_167 255 211 (dk_at dksX11_equals_3 11 rfl rfl)
theorem dX11_equals_85 : decode cX11_equals 85 = .ok (.iconst 1, 1) := dk_4 (dk_at dksX11_equals_3 14 rfl rfl)
theorem dX11_equals_86 : decode cX11_equals 86 = .ok (.ireturn, 1) := dk_172 (dk_at dksX11_equals_3 15 rfl rfl)
abbrev cX11_many : ByteArray := prog_16_method_3_code
def yX11_many : MethodName := ⟨RX11, "many", "()I"⟩
def dkwX11_many_0 : List UInt8 := [42, 180, 0, 7, 182, 0, 13, 172]
abbrev dktX11_many_0 : List UInt8 := dkwX11_many_0 ++ []
theorem dksX11_many_0 : cX11_many.data.toList.drop 0 = dktX11_many_0 := by decide +kernel
theorem dX11_many_0 : decode cX11_many 0 = .ok (.aload_n 0, 1) := dk_42 (dk_at dksX11_many_0 0 rfl rfl)
theorem dX11_many_1 : decode cX11_many 1 = .ok (.getfield 7, 3) := dk_180 0 7 (dk_at dksX11_many_0 1 rfl rfl)
theorem dX11_many_4 : decode cX11_many 4 = .ok (.invokevirtual 13, 3) := dk_182 0 13 (dk_at dksX11_many_0 4 rfl rfl)
theorem dX11_many_7 : decode cX11_many 7 = .ok (.ireturn, 1) := dk_172 (dk_at dksX11_many_0 7 rfl rfl)
abbrev cX11_step : ByteArray := prog_16_method_6_code
def yX11_step : MethodName := ⟨RX11, "step", "(I)LGathersAllFaults$Value;"⟩
def dkwX11_step_0 : List UInt8 := [42, 180, 0, 7, 27, 184, 0, 48, 182, 0, 52, 192, 0, 2, 176]
abbrev dktX11_step_0 : List UInt8 := dkwX11_step_0 ++ []
theorem dksX11_step_0 : cX11_step.data.toList.drop 0 = dktX11_step_0 := by decide +kernel
theorem dX11_step_0 : decode cX11_step 0 = .ok (.aload_n 0, 1) := dk_42 (dk_at dksX11_step_0 0 rfl rfl)
theorem dX11_step_1 : decode cX11_step 1 = .ok (.getfield 7, 3) := dk_180 0 7 (dk_at dksX11_step_0 1 rfl rfl)
theorem dX11_step_4 : decode cX11_step 4 = .ok (.iload_n 1, 1) := dk_27 (dk_at dksX11_step_0 4 rfl rfl)
theorem dX11_step_5 : decode cX11_step 5 = .ok (.invokestatic 48, 3) := dk_184 0 48 (dk_at dksX11_step_0 5 rfl rfl)
theorem dX11_step_8 : decode cX11_step 8 = .ok (.invokevirtual 52, 3) := dk_182 0 52 (dk_at dksX11_step_0 8 rfl rfl)
theorem dX11_step_11 : decode cX11_step 11 = .ok (.checkcast 2, 3) := dk_192 0 2 (dk_at dksX11_step_0 11 rfl rfl)
theorem dX11_step_14 : decode cX11_step 14 = .ok (.areturn, 1) := dk_176 (dk_at dksX11_step_0 14 rfl rfl)
abbrev cX11_init : ByteArray := prog_16_method_1_code
def yX11_init : MethodName := ⟨RX11, "<init>", "(Ljava/util/LinkedHashMap;)V"⟩
def dkwX11_init_2 : List UInt8 := [192, 0, 43, 182, 0, 45, 54, 4, 42, 180, 0, 19, 28, 21, 4, 79, 132, 2, 1, 167, 255, 222, 177]
abbrev dktX11_init_2 : List UInt8 := dkwX11_init_2 ++ []
def dkwX11_init_1 : List UInt8 := [182, 0, 23, 185, 0, 27, 1, 0, 78, 45, 185, 0, 33, 1, 0, 153, 0, 31, 45, 185, 0, 39, 1, 0]
abbrev dktX11_init_1 : List UInt8 := dkwX11_init_1 ++ dktX11_init_2
def dkwX11_init_0 : List UInt8 := [42, 183, 0, 1, 42, 43, 181, 0, 7, 42, 43, 182, 0, 13, 188, 10, 181, 0, 19, 3, 61, 43]
abbrev dktX11_init_0 : List UInt8 := dkwX11_init_0 ++ dktX11_init_1
theorem dksX11_init_0 : cX11_init.data.toList.drop 0 = dktX11_init_0 := by decide +kernel
theorem dksX11_init_1 : cX11_init.data.toList.drop 22 = dktX11_init_1 := dk_seg dksX11_init_0 22 rfl rfl
theorem dksX11_init_2 : cX11_init.data.toList.drop 46 = dktX11_init_2 := dk_seg dksX11_init_1 24 rfl rfl
theorem dX11_init_0 : decode cX11_init 0 = .ok (.aload_n 0, 1) := dk_42 (dk_at dksX11_init_0 0 rfl rfl)
theorem dX11_init_1 : decode cX11_init 1 = .ok (.invokespecial 1, 3) := dk_183 0 1 (dk_at dksX11_init_0 1 rfl rfl)
theorem dX11_init_4 : decode cX11_init 4 = .ok (.aload_n 0, 1) := dk_42 (dk_at dksX11_init_0 4 rfl rfl)
theorem dX11_init_5 : decode cX11_init 5 = .ok (.aload_n 1, 1) := dk_43 (dk_at dksX11_init_0 5 rfl rfl)
theorem dX11_init_6 : decode cX11_init 6 = .ok (.putfield 7, 3) := dk_181 0 7 (dk_at dksX11_init_0 6 rfl rfl)
theorem dX11_init_9 : decode cX11_init 9 = .ok (.aload_n 0, 1) := dk_42 (dk_at dksX11_init_0 9 rfl rfl)
theorem dX11_init_10 : decode cX11_init 10 = .ok (.aload_n 1, 1) := dk_43 (dk_at dksX11_init_0 10 rfl rfl)
theorem dX11_init_11 : decode cX11_init 11 = .ok (.invokevirtual 13, 3) := dk_182 0 13 (dk_at dksX11_init_0 11 rfl rfl)
theorem dX11_init_14 : decode cX11_init 14 = .ok (.newarray .int, 2) := dk_188_10 (dk_at dksX11_init_0 14 rfl rfl)
theorem dX11_init_16 : decode cX11_init 16 = .ok (.putfield 19, 3) := dk_181 0 19 (dk_at dksX11_init_0 16 rfl rfl)
theorem dX11_init_19 : decode cX11_init 19 = .ok (.iconst 0, 1) := dk_3 (dk_at dksX11_init_0 19 rfl rfl)
theorem dX11_init_20 : decode cX11_init 20 = .ok (.istore_n 2, 1) := dk_61 (dk_at dksX11_init_0 20 rfl rfl)
theorem dX11_init_21 : decode cX11_init 21 = .ok (.aload_n 1, 1) := dk_43 (dk_at dksX11_init_0 21 rfl rfl)
theorem dX11_init_22 : decode cX11_init 22 = .ok (.invokevirtual 23, 3) := dk_182 0 23 (dk_at dksX11_init_1 0 rfl rfl)
theorem dX11_init_25 : decode cX11_init 25 = .ok (.invokeinterface 27 1, 5) := by decide +kernel
theorem dX11_init_30 : decode cX11_init 30 = .ok (.astore_n 3, 1) := dk_78 (dk_at dksX11_init_1 8 rfl rfl)
theorem dX11_init_31 : decode cX11_init 31 = .ok (.aload_n 3, 1) := dk_45 (dk_at dksX11_init_1 9 rfl rfl)
theorem dX11_init_32 : decode cX11_init 32 = .ok (.invokeinterface 33 1, 5) := by decide +kernel
theorem dX11_init_37 : decode cX11_init 37 = .ok (.ifCond .eq 31, 3) := dk_153 0 31 (dk_at dksX11_init_1 15 rfl rfl)
theorem dX11_init_40 : decode cX11_init 40 = .ok (.aload_n 3, 1) := dk_45 (dk_at dksX11_init_1 18 rfl rfl)
theorem dX11_init_41 : decode cX11_init 41 = .ok (.invokeinterface 39 1, 5) := by decide +kernel
theorem dX11_init_46 : decode cX11_init 46 = .ok (.checkcast 43, 3) := dk_192 0 43 (dk_at dksX11_init_2 0 rfl rfl)
theorem dX11_init_49 : decode cX11_init 49 = .ok (.invokevirtual 45, 3) := dk_182 0 45 (dk_at dksX11_init_2 3 rfl rfl)
theorem dX11_init_52 : decode cX11_init 52 = .ok (.istore 4, 2) := dk_54 4 (dk_at dksX11_init_2 6 rfl rfl)
theorem dX11_init_54 : decode cX11_init 54 = .ok (.aload_n 0, 1) := dk_42 (dk_at dksX11_init_2 8 rfl rfl)
theorem dX11_init_55 : decode cX11_init 55 = .ok (.getfield 19, 3) := dk_180 0 19 (dk_at dksX11_init_2 9 rfl rfl)
theorem dX11_init_58 : decode cX11_init 58 = .ok (.iload_n 2, 1) := dk_28 (dk_at dksX11_init_2 12 rfl rfl)
theorem dX11_init_59 : decode cX11_init 59 = .ok (.iload 4, 2) := dk_21 4 (dk_at dksX11_init_2 13 rfl rfl)
theorem dX11_init_61 : decode cX11_init 61 = .ok (.iastore, 1) := dk_79 (dk_at dksX11_init_2 15 rfl rfl)
theorem dX11_init_62 : decode cX11_init 62 = .ok (.iinc 2 1, 3) := dk_132 2 1 (dk_at dksX11_init_2 16 rfl rfl)
theorem dX11_init_65 : decode cX11_init 65 = .ok (.goto (-34), 3) := dk_167 255 222 (dk_at dksX11_init_2 19 rfl rfl)
theorem dX11_init_68 : decode cX11_init 68 = .ok (.return_, 1) := dk_177 (dk_at dksX11_init_2 22 rfl rfl)
abbrev cX11_size : ByteArray := prog_16_method_4_code
def yX11_size : MethodName := ⟨RX11, "size", "()I"⟩
def dkwX11_size_2 : List UInt8 := [132, 4, 1, 167, 255, 220, 27, 172]
abbrev dktX11_size_2 : List UInt8 := dkwX11_size_2 ++ []
def dkwX11_size_1 : List UInt8 := [54, 5, 27, 42, 180, 0, 7, 21, 5, 184, 0, 48, 182, 0, 52, 192, 0, 2, 182, 0, 56, 96, 60]
abbrev dktX11_size_1 : List UInt8 := dkwX11_size_1 ++ dktX11_size_2
def dkwX11_size_0 : List UInt8 := [4, 60, 42, 180, 0, 19, 77, 44, 190, 62, 3, 54, 4, 21, 4, 29, 162, 0, 36, 44, 21, 4, 46]
abbrev dktX11_size_0 : List UInt8 := dkwX11_size_0 ++ dktX11_size_1
theorem dksX11_size_0 : cX11_size.data.toList.drop 0 = dktX11_size_0 := by decide +kernel
theorem dksX11_size_1 : cX11_size.data.toList.drop 23 = dktX11_size_1 := dk_seg dksX11_size_0 23 rfl rfl
theorem dksX11_size_2 : cX11_size.data.toList.drop 46 = dktX11_size_2 := dk_seg dksX11_size_1 23 rfl rfl
theorem dX11_size_0 : decode cX11_size 0 = .ok (.iconst 1, 1) := dk_4 (dk_at dksX11_size_0 0 rfl rfl)
theorem dX11_size_1 : decode cX11_size 1 = .ok (.istore_n 1, 1) := dk_60 (dk_at dksX11_size_0 1 rfl rfl)
theorem dX11_size_2 : decode cX11_size 2 = .ok (.aload_n 0, 1) := dk_42 (dk_at dksX11_size_0 2 rfl rfl)
theorem dX11_size_3 : decode cX11_size 3 = .ok (.getfield 19, 3) := dk_180 0 19 (dk_at dksX11_size_0 3 rfl rfl)
theorem dX11_size_6 : decode cX11_size 6 = .ok (.astore_n 2, 1) := dk_77 (dk_at dksX11_size_0 6 rfl rfl)
theorem dX11_size_7 : decode cX11_size 7 = .ok (.aload_n 2, 1) := dk_44 (dk_at dksX11_size_0 7 rfl rfl)
theorem dX11_size_8 : decode cX11_size 8 = .ok (.arraylength, 1) := dk_190 (dk_at dksX11_size_0 8 rfl rfl)
theorem dX11_size_9 : decode cX11_size 9 = .ok (.istore_n 3, 1) := dk_62 (dk_at dksX11_size_0 9 rfl rfl)
theorem dX11_size_10 : decode cX11_size 10 = .ok (.iconst 0, 1) := dk_3 (dk_at dksX11_size_0 10 rfl rfl)
theorem dX11_size_11 : decode cX11_size 11 = .ok (.istore 4, 2) := dk_54 4 (dk_at dksX11_size_0 11 rfl rfl)
theorem dX11_size_13 : decode cX11_size 13 = .ok (.iload 4, 2) := dk_21 4 (dk_at dksX11_size_0 13 rfl rfl)
theorem dX11_size_15 : decode cX11_size 15 = .ok (.iload_n 3, 1) := dk_29 (dk_at dksX11_size_0 15 rfl rfl)
theorem dX11_size_16 : decode cX11_size 16 = .ok (.if_icmp .ge 36, 3) := dk_162 0 36 (dk_at dksX11_size_0 16 rfl rfl)
theorem dX11_size_19 : decode cX11_size 19 = .ok (.aload_n 2, 1) := dk_44 (dk_at dksX11_size_0 19 rfl rfl)
theorem dX11_size_20 : decode cX11_size 20 = .ok (.iload 4, 2) := dk_21 4 (dk_at dksX11_size_0 20 rfl rfl)
theorem dX11_size_22 : decode cX11_size 22 = .ok (.iaload, 1) := dk_46 (dk_at dksX11_size_0 22 rfl rfl)
theorem dX11_size_23 : decode cX11_size 23 = .ok (.istore 5, 2) := dk_54 5 (dk_at dksX11_size_1 0 rfl rfl)
theorem dX11_size_25 : decode cX11_size 25 = .ok (.iload_n 1, 1) := dk_27 (dk_at dksX11_size_1 2 rfl rfl)
theorem dX11_size_26 : decode cX11_size 26 = .ok (.aload_n 0, 1) := dk_42 (dk_at dksX11_size_1 3 rfl rfl)
theorem dX11_size_27 : decode cX11_size 27 = .ok (.getfield 7, 3) := dk_180 0 7 (dk_at dksX11_size_1 4 rfl rfl)
theorem dX11_size_30 : decode cX11_size 30 = .ok (.iload 5, 2) := dk_21 5 (dk_at dksX11_size_1 7 rfl rfl)
theorem dX11_size_32 : decode cX11_size 32 = .ok (.invokestatic 48, 3) := dk_184 0 48 (dk_at dksX11_size_1 9 rfl rfl)
theorem dX11_size_35 : decode cX11_size 35 = .ok (.invokevirtual 52, 3) := dk_182 0 52 (dk_at dksX11_size_1 12 rfl rfl)
theorem dX11_size_38 : decode cX11_size 38 = .ok (.checkcast 2, 3) := dk_192 0 2 (dk_at dksX11_size_1 15 rfl rfl)
theorem dX11_size_41 : decode cX11_size 41 = .ok (.invokevirtual 56, 3) := dk_182 0 56 (dk_at dksX11_size_1 18 rfl rfl)
theorem dX11_size_44 : decode cX11_size 44 = .ok (.iadd, 1) := dk_96 (dk_at dksX11_size_1 21 rfl rfl)
theorem dX11_size_45 : decode cX11_size 45 = .ok (.istore_n 1, 1) := dk_60 (dk_at dksX11_size_1 22 rfl rfl)
theorem dX11_size_46 : decode cX11_size 46 = .ok (.iinc 4 1, 3) := dk_132 4 1 (dk_at dksX11_size_2 0 rfl rfl)
theorem dX11_size_49 : decode cX11_size 49 = .ok (.goto (-36), 3) := dk_167 255 220 (dk_at dksX11_size_2 3 rfl rfl)
theorem dX11_size_52 : decode cX11_size 52 = .ok (.iload_n 1, 1) := dk_27 (dk_at dksX11_size_2 6 rfl rfl)
theorem dX11_size_53 : decode cX11_size 53 = .ok (.ireturn, 1) := dk_172 (dk_at dksX11_size_2 7 rfl rfl)
abbrev cX11_lay : ByteArray := prog_16_method_8_code
def yX11_lay : MethodName := ⟨RX11, "lay", "(LGathersAllFaults$Row;I)V"⟩
def dkwX11_lay_2 : List UInt8 := [96, 182, 0, 68, 132, 5, 1, 167, 255, 214, 177]
abbrev dktX11_lay_2 : List UInt8 := dkwX11_lay_2 ++ []
def dkwX11_lay_1 : List UInt8 := [54, 6, 42, 180, 0, 7, 21, 6, 184, 0, 48, 182, 0, 52, 192, 0, 2, 43, 16, 10, 28, 104, 21, 6]
abbrev dktX11_lay_1 : List UInt8 := dkwX11_lay_1 ++ dktX11_lay_2
def dkwX11_lay_0 : List UInt8 := [42, 180, 0, 19, 78, 45, 190, 54, 4, 3, 54, 5, 21, 5, 21, 4, 162, 0, 41, 45, 21, 5, 46]
abbrev dktX11_lay_0 : List UInt8 := dkwX11_lay_0 ++ dktX11_lay_1
theorem dksX11_lay_0 : cX11_lay.data.toList.drop 0 = dktX11_lay_0 := by decide +kernel
theorem dksX11_lay_1 : cX11_lay.data.toList.drop 23 = dktX11_lay_1 := dk_seg dksX11_lay_0 23 rfl rfl
theorem dksX11_lay_2 : cX11_lay.data.toList.drop 47 = dktX11_lay_2 := dk_seg dksX11_lay_1 24 rfl rfl
theorem dX11_lay_0 : decode cX11_lay 0 = .ok (.aload_n 0, 1) := dk_42 (dk_at dksX11_lay_0 0 rfl rfl)
theorem dX11_lay_1 : decode cX11_lay 1 = .ok (.getfield 19, 3) := dk_180 0 19 (dk_at dksX11_lay_0 1 rfl rfl)
theorem dX11_lay_4 : decode cX11_lay 4 = .ok (.astore_n 3, 1) := dk_78 (dk_at dksX11_lay_0 4 rfl rfl)
theorem dX11_lay_5 : decode cX11_lay 5 = .ok (.aload_n 3, 1) := dk_45 (dk_at dksX11_lay_0 5 rfl rfl)
theorem dX11_lay_6 : decode cX11_lay 6 = .ok (.arraylength, 1) := dk_190 (dk_at dksX11_lay_0 6 rfl rfl)
theorem dX11_lay_7 : decode cX11_lay 7 = .ok (.istore 4, 2) := dk_54 4 (dk_at dksX11_lay_0 7 rfl rfl)
theorem dX11_lay_9 : decode cX11_lay 9 = .ok (.iconst 0, 1) := dk_3 (dk_at dksX11_lay_0 9 rfl rfl)
theorem dX11_lay_10 : decode cX11_lay 10 = .ok (.istore 5, 2) := dk_54 5 (dk_at dksX11_lay_0 10 rfl rfl)
theorem dX11_lay_12 : decode cX11_lay 12 = .ok (.iload 5, 2) := dk_21 5 (dk_at dksX11_lay_0 12 rfl rfl)
theorem dX11_lay_14 : decode cX11_lay 14 = .ok (.iload 4, 2) := dk_21 4 (dk_at dksX11_lay_0 14 rfl rfl)
theorem dX11_lay_16 : decode cX11_lay 16 = .ok (.if_icmp .ge 41, 3) := dk_162 0 41 (dk_at dksX11_lay_0 16 rfl rfl)
theorem dX11_lay_19 : decode cX11_lay 19 = .ok (.aload_n 3, 1) := dk_45 (dk_at dksX11_lay_0 19 rfl rfl)
theorem dX11_lay_20 : decode cX11_lay 20 = .ok (.iload 5, 2) := dk_21 5 (dk_at dksX11_lay_0 20 rfl rfl)
theorem dX11_lay_22 : decode cX11_lay 22 = .ok (.iaload, 1) := dk_46 (dk_at dksX11_lay_0 22 rfl rfl)
theorem dX11_lay_23 : decode cX11_lay 23 = .ok (.istore 6, 2) := dk_54 6 (dk_at dksX11_lay_1 0 rfl rfl)
theorem dX11_lay_25 : decode cX11_lay 25 = .ok (.aload_n 0, 1) := dk_42 (dk_at dksX11_lay_1 2 rfl rfl)
theorem dX11_lay_26 : decode cX11_lay 26 = .ok (.getfield 7, 3) := dk_180 0 7 (dk_at dksX11_lay_1 3 rfl rfl)
theorem dX11_lay_29 : decode cX11_lay 29 = .ok (.iload 6, 2) := dk_21 6 (dk_at dksX11_lay_1 6 rfl rfl)
theorem dX11_lay_31 : decode cX11_lay 31 = .ok (.invokestatic 48, 3) := dk_184 0 48 (dk_at dksX11_lay_1 8 rfl rfl)
theorem dX11_lay_34 : decode cX11_lay 34 = .ok (.invokevirtual 52, 3) := dk_182 0 52 (dk_at dksX11_lay_1 11 rfl rfl)
theorem dX11_lay_37 : decode cX11_lay 37 = .ok (.checkcast 2, 3) := dk_192 0 2 (dk_at dksX11_lay_1 14 rfl rfl)
theorem dX11_lay_40 : decode cX11_lay 40 = .ok (.aload_n 1, 1) := dk_43 (dk_at dksX11_lay_1 17 rfl rfl)
theorem dX11_lay_41 : decode cX11_lay 41 = .ok (.bipush 10, 2) := dk_16 10 (dk_at dksX11_lay_1 18 rfl rfl)
theorem dX11_lay_43 : decode cX11_lay 43 = .ok (.iload_n 2, 1) := dk_28 (dk_at dksX11_lay_1 20 rfl rfl)
theorem dX11_lay_44 : decode cX11_lay 44 = .ok (.imul, 1) := dk_104 (dk_at dksX11_lay_1 21 rfl rfl)
theorem dX11_lay_45 : decode cX11_lay 45 = .ok (.iload 6, 2) := dk_21 6 (dk_at dksX11_lay_1 22 rfl rfl)
theorem dX11_lay_47 : decode cX11_lay 47 = .ok (.iadd, 1) := dk_96 (dk_at dksX11_lay_2 0 rfl rfl)
theorem dX11_lay_48 : decode cX11_lay 48 = .ok (.invokevirtual 68, 3) := dk_182 0 68 (dk_at dksX11_lay_2 1 rfl rfl)
theorem dX11_lay_51 : decode cX11_lay 51 = .ok (.iinc 5 1, 3) := dk_132 5 1 (dk_at dksX11_lay_2 4 rfl rfl)
theorem dX11_lay_54 : decode cX11_lay 54 = .ok (.goto (-42), 3) := dk_167 255 214 (dk_at dksX11_lay_2 7 rfl rfl)
theorem dX11_lay_57 : decode cX11_lay 57 = .ok (.return_, 1) := dk_177 (dk_at dksX11_lay_2 10 rfl rfl)
abbrev cX11_kind : ByteArray := prog_16_method_2_code
def yX11_kind : MethodName := ⟨RX11, "kind", "()I"⟩
theorem dX11_kind_0 : decode cX11_kind 0 = .ok (.iconst 2, 1) := by decide +kernel
theorem dX11_kind_1 : decode cX11_kind 1 = .ok (.ireturn, 1) := by decide +kernel
abbrev cX11_with : ByteArray := prog_16_method_7_code
def yX11_with : MethodName := ⟨RX11, "with", "(ILGathersAllFaults$Value;)LGathersAllFaults$Value;"⟩
def dkwX11_with_3 : List UInt8 := [184, 0, 48, 25, 8, 182, 0, 61, 87, 132, 6, 1, 167, 255, 195, 187, 0, 8, 89, 45, 183, 0, 65, 176]
abbrev dktX11_with_3 : List UInt8 := dkwX11_with_3 ++ []
def dkwX11_with_2 : List UInt8 := [180, 0, 7, 21, 7, 184, 0, 48, 182, 0, 52, 192, 0, 2, 58, 8, 25, 8, 198, 0, 15, 45, 21, 7]
abbrev dktX11_with_2 : List UInt8 := dkwX11_with_2 ++ dktX11_with_3
def dkwX11_with_1 : List UInt8 := [21, 5, 162, 0, 60, 25, 4, 21, 6, 46, 54, 7, 21, 7, 27, 160, 0, 7, 44, 167, 0, 18, 42]
abbrev dktX11_with_1 : List UInt8 := dkwX11_with_1 ++ dktX11_with_2
def dkwX11_with_0 : List UInt8 := [187, 0, 14, 89, 183, 0, 60, 78, 42, 180, 0, 19, 58, 4, 25, 4, 190, 54, 5, 3, 54, 6, 21, 6]
abbrev dktX11_with_0 : List UInt8 := dkwX11_with_0 ++ dktX11_with_1
theorem dksX11_with_0 : cX11_with.data.toList.drop 0 = dktX11_with_0 := by decide +kernel
theorem dksX11_with_1 : cX11_with.data.toList.drop 24 = dktX11_with_1 := dk_seg dksX11_with_0 24 rfl rfl
theorem dksX11_with_2 : cX11_with.data.toList.drop 47 = dktX11_with_2 := dk_seg dksX11_with_1 23 rfl rfl
theorem dksX11_with_3 : cX11_with.data.toList.drop 71 = dktX11_with_3 := dk_seg dksX11_with_2 24 rfl rfl
theorem dX11_with_0 : decode cX11_with 0 = .ok (.new 14, 3) := dk_187 0 14 (dk_at dksX11_with_0 0 rfl rfl)
theorem dX11_with_3 : decode cX11_with 3 = .ok (.dup, 1) := dk_89 (dk_at dksX11_with_0 3 rfl rfl)
theorem dX11_with_4 : decode cX11_with 4 = .ok (.invokespecial 60, 3) := dk_183 0 60 (dk_at dksX11_with_0 4 rfl rfl)
theorem dX11_with_7 : decode cX11_with 7 = .ok (.astore_n 3, 1) := dk_78 (dk_at dksX11_with_0 7 rfl rfl)
theorem dX11_with_8 : decode cX11_with 8 = .ok (.aload_n 0, 1) := dk_42 (dk_at dksX11_with_0 8 rfl rfl)
theorem dX11_with_9 : decode cX11_with 9 = .ok (.getfield 19, 3) := dk_180 0 19 (dk_at dksX11_with_0 9 rfl rfl)
theorem dX11_with_12 : decode cX11_with 12 = .ok (.astore 4, 2) := dk_58 4 (dk_at dksX11_with_0 12 rfl rfl)
theorem dX11_with_14 : decode cX11_with 14 = .ok (.aload 4, 2) := dk_25 4 (dk_at dksX11_with_0 14 rfl rfl)
theorem dX11_with_16 : decode cX11_with 16 = .ok (.arraylength, 1) := dk_190 (dk_at dksX11_with_0 16 rfl rfl)
theorem dX11_with_17 : decode cX11_with 17 = .ok (.istore 5, 2) := dk_54 5 (dk_at dksX11_with_0 17 rfl rfl)
theorem dX11_with_19 : decode cX11_with 19 = .ok (.iconst 0, 1) := dk_3 (dk_at dksX11_with_0 19 rfl rfl)
theorem dX11_with_20 : decode cX11_with 20 = .ok (.istore 6, 2) := dk_54 6 (dk_at dksX11_with_0 20 rfl rfl)
theorem dX11_with_22 : decode cX11_with 22 = .ok (.iload 6, 2) := dk_21 6 (dk_at dksX11_with_0 22 rfl rfl)
theorem dX11_with_24 : decode cX11_with 24 = .ok (.iload 5, 2) := dk_21 5 (dk_at dksX11_with_1 0 rfl rfl)
theorem dX11_with_26 : decode cX11_with 26 = .ok (.if_icmp .ge 60, 3) := dk_162 0 60 (dk_at dksX11_with_1 2 rfl rfl)
theorem dX11_with_29 : decode cX11_with 29 = .ok (.aload 4, 2) := dk_25 4 (dk_at dksX11_with_1 5 rfl rfl)
theorem dX11_with_31 : decode cX11_with 31 = .ok (.iload 6, 2) := dk_21 6 (dk_at dksX11_with_1 7 rfl rfl)
theorem dX11_with_33 : decode cX11_with 33 = .ok (.iaload, 1) := dk_46 (dk_at dksX11_with_1 9 rfl rfl)
theorem dX11_with_34 : decode cX11_with 34 = .ok (.istore 7, 2) := dk_54 7 (dk_at dksX11_with_1 10 rfl rfl)
theorem dX11_with_36 : decode cX11_with 36 = .ok (.iload 7, 2) := dk_21 7 (dk_at dksX11_with_1 12 rfl rfl)
theorem dX11_with_38 : decode cX11_with 38 = .ok (.iload_n 1, 1) := dk_27 (dk_at dksX11_with_1 14 rfl rfl)
theorem dX11_with_39 : decode cX11_with 39 = .ok (.if_icmp .ne 7, 3) := dk_160 0 7 (dk_at dksX11_with_1 15 rfl rfl)
theorem dX11_with_42 : decode cX11_with 42 = .ok (.aload_n 2, 1) := dk_44 (dk_at dksX11_with_1 18 rfl rfl)
theorem dX11_with_43 : decode cX11_with 43 = .ok (.goto 18, 3) := dk_167 0 18 (dk_at dksX11_with_1 19 rfl rfl)
theorem dX11_with_46 : decode cX11_with 46 = .ok (.aload_n 0, 1) := dk_42 (dk_at dksX11_with_1 22 rfl rfl)
theorem dX11_with_47 : decode cX11_with 47 = .ok (.getfield 7, 3) := dk_180 0 7 (dk_at dksX11_with_2 0 rfl rfl)
theorem dX11_with_50 : decode cX11_with 50 = .ok (.iload 7, 2) := dk_21 7 (dk_at dksX11_with_2 3 rfl rfl)
theorem dX11_with_52 : decode cX11_with 52 = .ok (.invokestatic 48, 3) := dk_184 0 48 (dk_at dksX11_with_2 5 rfl rfl)
theorem dX11_with_55 : decode cX11_with 55 = .ok (.invokevirtual 52, 3) := dk_182 0 52 (dk_at dksX11_with_2 8 rfl rfl)
theorem dX11_with_58 : decode cX11_with 58 = .ok (.checkcast 2, 3) := dk_192 0 2 (dk_at dksX11_with_2 11 rfl rfl)
theorem dX11_with_61 : decode cX11_with 61 = .ok (.astore 8, 2) := dk_58 8 (dk_at dksX11_with_2 14 rfl rfl)
theorem dX11_with_63 : decode cX11_with 63 = .ok (.aload 8, 2) := dk_25 8 (dk_at dksX11_with_2 16 rfl rfl)
theorem dX11_with_65 : decode cX11_with 65 = .ok (.ifnull 15, 3) := dk_198 0 15 (dk_at dksX11_with_2 18 rfl rfl)
theorem dX11_with_68 : decode cX11_with 68 = .ok (.aload_n 3, 1) := dk_45 (dk_at dksX11_with_2 21 rfl rfl)
theorem dX11_with_69 : decode cX11_with 69 = .ok (.iload 7, 2) := dk_21 7 (dk_at dksX11_with_2 22 rfl rfl)
theorem dX11_with_71 : decode cX11_with 71 = .ok (.invokestatic 48, 3) := dk_184 0 48 (dk_at dksX11_with_3 0 rfl rfl)
theorem dX11_with_74 : decode cX11_with 74 = .ok (.aload 8, 2) := dk_25 8 (dk_at dksX11_with_3 3 rfl rfl)
theorem dX11_with_76 : decode cX11_with 76 = .ok (.invokevirtual 61, 3) := dk_182 0 61 (dk_at dksX11_with_3 5 rfl rfl)
theorem dX11_with_79 : decode cX11_with 79 = .ok (.pop, 1) := dk_87 (dk_at dksX11_with_3 8 rfl rfl)
theorem dX11_with_80 : decode cX11_with 80 = .ok (.iinc 6 1, 3) := dk_132 6 1 (dk_at dksX11_with_3 9 rfl rfl)
theorem dX11_with_83 : decode cX11_with 83 = .ok (.goto (-61), 3) := dk_167 255 195 (dk_at dksX11_with_3 12 rfl rfl)
theorem dX11_with_86 : decode cX11_with 86 = .ok (.new 8, 3) := dk_187 0 8 (dk_at dksX11_with_3 15 rfl rfl)
theorem dX11_with_89 : decode cX11_with 89 = .ok (.dup, 1) := dk_89 (dk_at dksX11_with_3 18 rfl rfl)
theorem dX11_with_90 : decode cX11_with 90 = .ok (.aload_n 3, 1) := dk_45 (dk_at dksX11_with_3 19 rfl rfl)
theorem dX11_with_91 : decode cX11_with 91 = .ok (.invokespecial 65, 3) := dk_183 0 65 (dk_at dksX11_with_3 20 rfl rfl)
theorem dX11_with_94 : decode cX11_with 94 = .ok (.areturn, 1) := dk_176 (dk_at dksX11_with_3 23 rfl rfl)
abbrev cX11_total : ByteArray := prog_16_method_5_code
def yX11_total : MethodName := ⟨RX11, "total", "()I"⟩
def dkwX11_total_2 : List UInt8 := [132, 4, 1, 167, 255, 220, 27, 172]
abbrev dktX11_total_2 : List UInt8 := dkwX11_total_2 ++ []
def dkwX11_total_1 : List UInt8 := [54, 5, 27, 42, 180, 0, 7, 21, 5, 184, 0, 48, 182, 0, 52, 192, 0, 2, 182, 0, 57, 96, 60]
abbrev dktX11_total_1 : List UInt8 := dkwX11_total_1 ++ dktX11_total_2
def dkwX11_total_0 : List UInt8 := [3, 60, 42, 180, 0, 19, 77, 44, 190, 62, 3, 54, 4, 21, 4, 29, 162, 0, 36, 44, 21, 4, 46]
abbrev dktX11_total_0 : List UInt8 := dkwX11_total_0 ++ dktX11_total_1
theorem dksX11_total_0 : cX11_total.data.toList.drop 0 = dktX11_total_0 := by decide +kernel
theorem dksX11_total_1 : cX11_total.data.toList.drop 23 = dktX11_total_1 := dk_seg dksX11_total_0 23 rfl rfl
theorem dksX11_total_2 : cX11_total.data.toList.drop 46 = dktX11_total_2 := dk_seg dksX11_total_1 23 rfl rfl
theorem dX11_total_0 : decode cX11_total 0 = .ok (.iconst 0, 1) := dk_3 (dk_at dksX11_total_0 0 rfl rfl)
theorem dX11_total_1 : decode cX11_total 1 = .ok (.istore_n 1, 1) := dk_60 (dk_at dksX11_total_0 1 rfl rfl)
theorem dX11_total_2 : decode cX11_total 2 = .ok (.aload_n 0, 1) := dk_42 (dk_at dksX11_total_0 2 rfl rfl)
theorem dX11_total_3 : decode cX11_total 3 = .ok (.getfield 19, 3) := dk_180 0 19 (dk_at dksX11_total_0 3 rfl rfl)
theorem dX11_total_6 : decode cX11_total 6 = .ok (.astore_n 2, 1) := dk_77 (dk_at dksX11_total_0 6 rfl rfl)
theorem dX11_total_7 : decode cX11_total 7 = .ok (.aload_n 2, 1) := dk_44 (dk_at dksX11_total_0 7 rfl rfl)
theorem dX11_total_8 : decode cX11_total 8 = .ok (.arraylength, 1) := dk_190 (dk_at dksX11_total_0 8 rfl rfl)
theorem dX11_total_9 : decode cX11_total 9 = .ok (.istore_n 3, 1) := dk_62 (dk_at dksX11_total_0 9 rfl rfl)
theorem dX11_total_10 : decode cX11_total 10 = .ok (.iconst 0, 1) := dk_3 (dk_at dksX11_total_0 10 rfl rfl)
theorem dX11_total_11 : decode cX11_total 11 = .ok (.istore 4, 2) := dk_54 4 (dk_at dksX11_total_0 11 rfl rfl)
theorem dX11_total_13 : decode cX11_total 13 = .ok (.iload 4, 2) := dk_21 4 (dk_at dksX11_total_0 13 rfl rfl)
theorem dX11_total_15 : decode cX11_total 15 = .ok (.iload_n 3, 1) := dk_29 (dk_at dksX11_total_0 15 rfl rfl)
theorem dX11_total_16 : decode cX11_total 16 = .ok (.if_icmp .ge 36, 3) := dk_162 0 36 (dk_at dksX11_total_0 16 rfl rfl)
theorem dX11_total_19 : decode cX11_total 19 = .ok (.aload_n 2, 1) := dk_44 (dk_at dksX11_total_0 19 rfl rfl)
theorem dX11_total_20 : decode cX11_total 20 = .ok (.iload 4, 2) := dk_21 4 (dk_at dksX11_total_0 20 rfl rfl)
theorem dX11_total_22 : decode cX11_total 22 = .ok (.iaload, 1) := dk_46 (dk_at dksX11_total_0 22 rfl rfl)
theorem dX11_total_23 : decode cX11_total 23 = .ok (.istore 5, 2) := dk_54 5 (dk_at dksX11_total_1 0 rfl rfl)
theorem dX11_total_25 : decode cX11_total 25 = .ok (.iload_n 1, 1) := dk_27 (dk_at dksX11_total_1 2 rfl rfl)
theorem dX11_total_26 : decode cX11_total 26 = .ok (.aload_n 0, 1) := dk_42 (dk_at dksX11_total_1 3 rfl rfl)
theorem dX11_total_27 : decode cX11_total 27 = .ok (.getfield 7, 3) := dk_180 0 7 (dk_at dksX11_total_1 4 rfl rfl)
theorem dX11_total_30 : decode cX11_total 30 = .ok (.iload 5, 2) := dk_21 5 (dk_at dksX11_total_1 7 rfl rfl)
theorem dX11_total_32 : decode cX11_total 32 = .ok (.invokestatic 48, 3) := dk_184 0 48 (dk_at dksX11_total_1 9 rfl rfl)
theorem dX11_total_35 : decode cX11_total 35 = .ok (.invokevirtual 52, 3) := dk_182 0 52 (dk_at dksX11_total_1 12 rfl rfl)
theorem dX11_total_38 : decode cX11_total 38 = .ok (.checkcast 2, 3) := dk_192 0 2 (dk_at dksX11_total_1 15 rfl rfl)
theorem dX11_total_41 : decode cX11_total 41 = .ok (.invokevirtual 57, 3) := dk_182 0 57 (dk_at dksX11_total_1 18 rfl rfl)
theorem dX11_total_44 : decode cX11_total 44 = .ok (.iadd, 1) := dk_96 (dk_at dksX11_total_1 21 rfl rfl)
theorem dX11_total_45 : decode cX11_total 45 = .ok (.istore_n 1, 1) := dk_60 (dk_at dksX11_total_1 22 rfl rfl)
theorem dX11_total_46 : decode cX11_total 46 = .ok (.iinc 4 1, 3) := dk_132 4 1 (dk_at dksX11_total_2 0 rfl rfl)
theorem dX11_total_49 : decode cX11_total 49 = .ok (.goto (-36), 3) := dk_167 255 220 (dk_at dksX11_total_2 3 rfl rfl)
theorem dX11_total_52 : decode cX11_total 52 = .ok (.iload_n 1, 1) := dk_27 (dk_at dksX11_total_2 6 rfl rfl)
theorem dX11_total_53 : decode cX11_total 53 = .ok (.ireturn, 1) := dk_172 (dk_at dksX11_total_2 7 rfl rfl)
theorem q162 : (Jvm.Cond.initialized "GathersAllFaults$Rec") ∈ lw_all := lw_g (lw_at lw_m1 25 rfl) rfl
theorem q626 : (Jvm.Cond.selects "GathersAllFaults$Rec" ({ cls := "GathersAllFaults$Value", name := "hashCode", desc := "()I" } : Jvm.MethodName) ({ cls := "GathersAllFaults$Rec", name := "hashCode", desc := "()I" } : Jvm.MethodName)) ∈ lw_all := lw_g (lw_at lw_m3 9 rfl) rfl
theorem q627 : (Jvm.Cond.instanceMethod ({ cls := "GathersAllFaults$Rec", name := "hashCode", desc := "()I" } : Jvm.MethodName)) ∈ lw_all := lw_g (lw_at lw_m3 10 rfl) rfl
theorem q628 : (Jvm.Cond.code ({ cls := "GathersAllFaults$Rec", name := "hashCode", desc := "()I" } : Jvm.MethodName) prog_16_method_10_code (6 : Nat) (Option.some Jvm.ClassFile.FieldType.int)) ∈ lw_all := lw_g (lw_at lw_m3 11 rfl) rfl
theorem q629 : (Jvm.Cond.methodLink "GathersAllFaults$Rec" (48 : Nat) ({ cls := "java/lang/Integer", name := "valueOf", desc := "(I)Ljava/lang/Integer;" } : Jvm.MethodName)) ∈ lw_all := lw_g (lw_at lw_m3 12 rfl) rfl
theorem q630 : (Jvm.Cond.methodLink "GathersAllFaults$Rec" (52 : Nat) ({ cls := "java/util/LinkedHashMap", name := "get", desc := "(Ljava/lang/Object;)Ljava/lang/Object;" } : Jvm.MethodName)) ∈ lw_all := lw_g (lw_at lw_m3 13 rfl) rfl
theorem q643 : (Jvm.Cond.classLink "GathersAllFaults$Rec" (2 : Nat) "GathersAllFaults$Value") ∈ lw_all := lw_g (lw_at lw_m3 26 rfl) rfl
theorem q644 : (Jvm.Cond.methodLink "GathersAllFaults$Rec" (83 : Nat) ({ cls := "GathersAllFaults$Value", name := "hashCode", desc := "()I" } : Jvm.MethodName)) ∈ lw_all := lw_g (lw_at lw_m3 27 rfl) rfl
theorem q649 : (Jvm.Cond.selects "GathersAllFaults$Rec" ({ cls := "java/lang/Object", name := "hashCode", desc := "()I" } : Jvm.MethodName) ({ cls := "GathersAllFaults$Rec", name := "hashCode", desc := "()I" } : Jvm.MethodName)) ∈ lw_all := lw_g (lw_at lw_m3 32 rfl) rfl
theorem q691 : (Jvm.Cond.selects "GathersAllFaults$Rec" ({ cls := "GathersAllFaults$Value", name := "equals", desc := "(Ljava/lang/Object;)Z" } : Jvm.MethodName) ({ cls := "GathersAllFaults$Rec", name := "equals", desc := "(Ljava/lang/Object;)Z" } : Jvm.MethodName)) ∈ lw_all := lw_g (lw_at lw_m3 74 rfl) rfl
theorem q692 : (Jvm.Cond.instanceMethod ({ cls := "GathersAllFaults$Rec", name := "equals", desc := "(Ljava/lang/Object;)Z" } : Jvm.MethodName)) ∈ lw_all := lw_g (lw_at lw_m3 75 rfl) rfl
theorem q693 : (Jvm.Cond.code ({ cls := "GathersAllFaults$Rec", name := "equals", desc := "(Ljava/lang/Object;)Z" } : Jvm.MethodName) prog_16_method_9_code (7 : Nat) (Option.some Jvm.ClassFile.FieldType.boolean)) ∈ lw_all := lw_g (lw_at lw_m3 76 rfl) rfl
theorem q694 : (Jvm.Cond.classLink "GathersAllFaults$Rec" (8 : Nat) "GathersAllFaults$Rec") ∈ lw_all := lw_g (lw_at lw_m3 77 rfl) rfl
theorem q695 : (Jvm.Cond.methodLink "GathersAllFaults$Rec" (72 : Nat) ({ cls := "GathersAllFaults$Rec", name := "many", desc := "()I" } : Jvm.MethodName)) ∈ lw_all := lw_g (lw_at lw_m3 78 rfl) rfl
theorem q696 : (Jvm.Cond.instanceMethod ({ cls := "GathersAllFaults$Rec", name := "many", desc := "()I" } : Jvm.MethodName)) ∈ lw_all := lw_g (lw_at lw_m3 79 rfl) rfl
theorem q697 : (Jvm.Cond.selects "GathersAllFaults$Rec" ({ cls := "GathersAllFaults$Rec", name := "many", desc := "()I" } : Jvm.MethodName) ({ cls := "GathersAllFaults$Rec", name := "many", desc := "()I" } : Jvm.MethodName)) ∈ lw_all := lw_g (lw_at lw_m3 80 rfl) rfl
theorem q698 : (Jvm.Cond.code ({ cls := "GathersAllFaults$Rec", name := "many", desc := "()I" } : Jvm.MethodName) prog_16_method_3_code (1 : Nat) (Option.some Jvm.ClassFile.FieldType.int)) ∈ lw_all := lw_g (lw_at lw_m3 81 rfl) rfl
theorem q699 : (Jvm.Cond.methodLink "GathersAllFaults$Rec" (13 : Nat) ({ cls := "java/util/LinkedHashMap", name := "size", desc := "()I" } : Jvm.MethodName)) ∈ lw_all := lw_g (lw_at lw_m3 82 rfl) rfl
theorem q705 : (Jvm.Cond.methodLink "GathersAllFaults$Rec" (75 : Nat) ({ cls := "GathersAllFaults$Rec", name := "step", desc := "(I)LGathersAllFaults$Value;" } : Jvm.MethodName)) ∈ lw_all := lw_g (lw_at lw_m3 88 rfl) rfl
theorem q706 : (Jvm.Cond.instanceMethod ({ cls := "GathersAllFaults$Rec", name := "step", desc := "(I)LGathersAllFaults$Value;" } : Jvm.MethodName)) ∈ lw_all := lw_g (lw_at lw_m3 89 rfl) rfl
theorem q707 : (Jvm.Cond.selects "GathersAllFaults$Rec" ({ cls := "GathersAllFaults$Rec", name := "step", desc := "(I)LGathersAllFaults$Value;" } : Jvm.MethodName) ({ cls := "GathersAllFaults$Rec", name := "step", desc := "(I)LGathersAllFaults$Value;" } : Jvm.MethodName)) ∈ lw_all := lw_g (lw_at lw_m3 90 rfl) rfl
theorem q708 : (Jvm.Cond.code ({ cls := "GathersAllFaults$Rec", name := "step", desc := "(I)LGathersAllFaults$Value;" } : Jvm.MethodName) prog_16_method_6_code (2 : Nat) (Option.some (Jvm.ClassFile.FieldType.object "GathersAllFaults$Value"))) ∈ lw_all := lw_g (lw_at lw_m3 91 rfl) rfl
theorem q709 : (Jvm.Cond.methodLink "GathersAllFaults$Rec" (79 : Nat) ({ cls := "GathersAllFaults$Value", name := "equals", desc := "(Ljava/lang/Object;)Z" } : Jvm.MethodName)) ∈ lw_all := lw_g (lw_at lw_m3 92 rfl) rfl
theorem q714 : (Jvm.Cond.selects "GathersAllFaults$Rec" ({ cls := "java/lang/Object", name := "equals", desc := "(Ljava/lang/Object;)Z" } : Jvm.MethodName) ({ cls := "GathersAllFaults$Rec", name := "equals", desc := "(Ljava/lang/Object;)Z" } : Jvm.MethodName)) ∈ lw_all := lw_g (lw_at lw_m3 97 rfl) rfl
theorem q763 : (Jvm.Cond.selects "GathersAllFaults$Rec" ({ cls := "java/lang/Object", name := "getClass", desc := "()Ljava/lang/Class;" } : Jvm.MethodName) ({ cls := "java/lang/Object", name := "getClass", desc := "()Ljava/lang/Class;" } : Jvm.MethodName)) ∈ lw_all := lw_g (lw_at lw_m3 146 rfl) rfl
theorem q1016 : (Jvm.Cond.instantiable "GathersAllFaults$Rec" (2 : Nat)) ∈ lw_all := lw_g (lw_at lw_m4 159 rfl) rfl
theorem q1018 : (Jvm.Cond.instanceMethod ({ cls := "GathersAllFaults$Rec", name := "<init>", desc := "(Ljava/util/LinkedHashMap;)V" } : Jvm.MethodName)) ∈ lw_all := lw_g (lw_at lw_m4 161 rfl) rfl
theorem q1019 : (Jvm.Cond.code ({ cls := "GathersAllFaults$Rec", name := "<init>", desc := "(Ljava/util/LinkedHashMap;)V" } : Jvm.MethodName) prog_16_method_1_code (5 : Nat) (Option.none : Option Jvm.ClassFile.FieldType)) ∈ lw_all := lw_g (lw_at lw_m4 162 rfl) rfl
theorem q1020 : (Jvm.Cond.methodLinkNest "GathersAllFaults$Rec" (1 : Nat) ({ cls := "GathersAllFaults$Value", name := "<init>", desc := "()V" } : Jvm.MethodName) "GathersAllFaults") ∈ lw_tbl := lw_at lw_m4 163 rfl
theorem q1021 : (Jvm.Cond.methodLink "GathersAllFaults$Rec" (23 : Nat) ({ cls := "java/util/LinkedHashMap", name := "keySet", desc := "()Ljava/util/Set;" } : Jvm.MethodName)) ∈ lw_all := lw_g (lw_at lw_m4 164 rfl) rfl
theorem q1049 : (Jvm.Cond.interfaceEntry "GathersAllFaults$Rec" (27 : Nat)) ∈ lw_tbl := lw_at lw_m4 192 rfl
theorem q1050 : (Jvm.Cond.methodLink "GathersAllFaults$Rec" (27 : Nat) ({ cls := "java/util/Set", name := "iterator", desc := "()Ljava/util/Iterator;" } : Jvm.MethodName)) ∈ lw_all := lw_g (lw_at lw_m4 193 rfl) rfl
theorem q1139 : (Jvm.Cond.interfaceEntry "GathersAllFaults$Rec" (33 : Nat)) ∈ lw_tbl := lw_at lw_m5 42 rfl
theorem q1140 : (Jvm.Cond.methodLink "GathersAllFaults$Rec" (33 : Nat) ({ cls := "java/util/Iterator", name := "hasNext", desc := "()Z" } : Jvm.MethodName)) ∈ lw_all := lw_g (lw_at lw_m5 43 rfl) rfl
theorem q1155 : (Jvm.Cond.interfaceEntry "GathersAllFaults$Rec" (39 : Nat)) ∈ lw_tbl := lw_at lw_m5 58 rfl
theorem q1156 : (Jvm.Cond.methodLink "GathersAllFaults$Rec" (39 : Nat) ({ cls := "java/util/Iterator", name := "next", desc := "()Ljava/lang/Object;" } : Jvm.MethodName)) ∈ lw_all := lw_g (lw_at lw_m5 59 rfl) rfl
theorem q1188 : (Jvm.Cond.classLink "GathersAllFaults$Rec" (43 : Nat) "java/lang/Integer") ∈ lw_all := lw_g (lw_at lw_m5 91 rfl) rfl
theorem q1189 : (Jvm.Cond.methodLink "GathersAllFaults$Rec" (45 : Nat) ({ cls := "java/lang/Integer", name := "intValue", desc := "()I" } : Jvm.MethodName)) ∈ lw_all := lw_g (lw_at lw_m5 92 rfl) rfl
theorem q1190 : (Jvm.Cond.fieldLink "GathersAllFaults$Rec" (7 : Nat) "GathersAllFaults$Rec" "fields" "Ljava/util/LinkedHashMap;") ∈ lw_all := lw_g (lw_at lw_m5 93 rfl) rfl
theorem q1192 : (Jvm.Cond.fieldLink "GathersAllFaults$Rec" (19 : Nat) "GathersAllFaults$Rec" "steps" "[I") ∈ lw_all := lw_g (lw_at lw_m5 95 rfl) rfl
theorem q1195 : (Jvm.Cond.laysFinal "GathersAllFaults$Rec" "GathersAllFaults$Rec" "fields" "Ljava/util/LinkedHashMap;") ∈ lw_all := lw_g (lw_at lw_m5 98 rfl) rfl
theorem q1196 : (Jvm.Cond.soleField "GathersAllFaults$Rec" "fields") ∈ lw_all := lw_g (lw_at lw_m5 99 rfl) rfl
theorem q1197 : (Jvm.Cond.laysFinal "GathersAllFaults$Rec" "GathersAllFaults$Rec" "steps" "[I") ∈ lw_all := lw_g (lw_at lw_m5 100 rfl) rfl
theorem q1198 : (Jvm.Cond.soleField "GathersAllFaults$Rec" "steps") ∈ lw_all := lw_g (lw_at lw_m5 101 rfl) rfl
theorem q1199 : (Jvm.Cond.superclass "GathersAllFaults$Rec" "GathersAllFaults$Value") ∈ lw_all := lw_g (lw_at lw_m5 102 rfl) rfl
theorem q1238 : (Jvm.Cond.instanceMethod ({ cls := "GathersAllFaults$Rec", name := "size", desc := "()I" } : Jvm.MethodName)) ∈ lw_all := lw_g (lw_at lw_m5 141 rfl) rfl
theorem q1239 : (Jvm.Cond.code ({ cls := "GathersAllFaults$Rec", name := "size", desc := "()I" } : Jvm.MethodName) prog_16_method_4_code (6 : Nat) (Option.some Jvm.ClassFile.FieldType.int)) ∈ lw_all := lw_g (lw_at lw_m5 142 rfl) rfl
theorem q1240 : (Jvm.Cond.methodLink "GathersAllFaults$Rec" (56 : Nat) ({ cls := "GathersAllFaults$Value", name := "size", desc := "()I" } : Jvm.MethodName)) ∈ lw_all := lw_g (lw_at lw_m5 143 rfl) rfl
theorem q1243 : (Jvm.Cond.selects "GathersAllFaults$Rec" ({ cls := "GathersAllFaults$Value", name := "size", desc := "()I" } : Jvm.MethodName) ({ cls := "GathersAllFaults$Rec", name := "size", desc := "()I" } : Jvm.MethodName)) ∈ lw_all := lw_g (lw_at lw_m5 146 rfl) rfl
theorem q1605 : (Jvm.Cond.selects "GathersAllFaults$Rec" ({ cls := "GathersAllFaults$Value", name := "layAll", desc := "(LGathersAllFaults$Row;I)V" } : Jvm.MethodName) ({ cls := "GathersAllFaults$Value", name := "layAll", desc := "(LGathersAllFaults$Row;I)V" } : Jvm.MethodName)) ∈ lw_all := lw_g (lw_at lw_m7 28 rfl) rfl
theorem q1636 : (Jvm.Cond.selects "GathersAllFaults$Rec" ({ cls := "GathersAllFaults$Value", name := "lay", desc := "(LGathersAllFaults$Row;I)V" } : Jvm.MethodName) ({ cls := "GathersAllFaults$Rec", name := "lay", desc := "(LGathersAllFaults$Row;I)V" } : Jvm.MethodName)) ∈ lw_all := lw_g (lw_at lw_m7 59 rfl) rfl
theorem q1637 : (Jvm.Cond.instanceMethod ({ cls := "GathersAllFaults$Rec", name := "lay", desc := "(LGathersAllFaults$Row;I)V" } : Jvm.MethodName)) ∈ lw_all := lw_g (lw_at lw_m7 60 rfl) rfl
theorem q1638 : (Jvm.Cond.code ({ cls := "GathersAllFaults$Rec", name := "lay", desc := "(LGathersAllFaults$Row;I)V" } : Jvm.MethodName) prog_16_method_8_code (7 : Nat) (Option.none : Option Jvm.ClassFile.FieldType)) ∈ lw_all := lw_g (lw_at lw_m7 61 rfl) rfl
theorem q1639 : (Jvm.Cond.methodLink "GathersAllFaults$Rec" (68 : Nat) ({ cls := "GathersAllFaults$Value", name := "layAll", desc := "(LGathersAllFaults$Row;I)V" } : Jvm.MethodName)) ∈ lw_all := lw_g (lw_at lw_m7 62 rfl) rfl
theorem q1655 : (Jvm.Cond.selects "GathersAllFaults$Rec" ({ cls := "GathersAllFaults$Value", name := "kind", desc := "()I" } : Jvm.MethodName) ({ cls := "GathersAllFaults$Rec", name := "kind", desc := "()I" } : Jvm.MethodName)) ∈ lw_all := lw_g (lw_at lw_m7 78 rfl) rfl
theorem q1656 : (Jvm.Cond.instanceMethod ({ cls := "GathersAllFaults$Rec", name := "kind", desc := "()I" } : Jvm.MethodName)) ∈ lw_all := lw_g (lw_at lw_m7 79 rfl) rfl
theorem q1657 : (Jvm.Cond.code ({ cls := "GathersAllFaults$Rec", name := "kind", desc := "()I" } : Jvm.MethodName) prog_16_method_2_code (1 : Nat) (Option.some Jvm.ClassFile.FieldType.int)) ∈ lw_all := lw_g (lw_at lw_m7 80 rfl) rfl
theorem q1668 : (Jvm.Cond.selects "GathersAllFaults$Rec" ({ cls := "GathersAllFaults$Value", name := "many", desc := "()I" } : Jvm.MethodName) ({ cls := "GathersAllFaults$Rec", name := "many", desc := "()I" } : Jvm.MethodName)) ∈ lw_all := lw_g (lw_at lw_m7 91 rfl) rfl
theorem q1694 : (Jvm.Cond.selects "GathersAllFaults$Rec" ({ cls := "GathersAllFaults$Value", name := "step", desc := "(I)LGathersAllFaults$Value;" } : Jvm.MethodName) ({ cls := "GathersAllFaults$Rec", name := "step", desc := "(I)LGathersAllFaults$Value;" } : Jvm.MethodName)) ∈ lw_all := lw_g (lw_at lw_m7 117 rfl) rfl
theorem q1709 : (Jvm.Cond.selects "GathersAllFaults$Rec" ({ cls := "GathersAllFaults$Value", name := "with", desc := "(ILGathersAllFaults$Value;)LGathersAllFaults$Value;" } : Jvm.MethodName) ({ cls := "GathersAllFaults$Rec", name := "with", desc := "(ILGathersAllFaults$Value;)LGathersAllFaults$Value;" } : Jvm.MethodName)) ∈ lw_all := lw_g (lw_at lw_m7 132 rfl) rfl
theorem q1710 : (Jvm.Cond.instanceMethod ({ cls := "GathersAllFaults$Rec", name := "with", desc := "(ILGathersAllFaults$Value;)LGathersAllFaults$Value;" } : Jvm.MethodName)) ∈ lw_all := lw_g (lw_at lw_m7 133 rfl) rfl
theorem q1711 : (Jvm.Cond.code ({ cls := "GathersAllFaults$Rec", name := "with", desc := "(ILGathersAllFaults$Value;)LGathersAllFaults$Value;" } : Jvm.MethodName) prog_16_method_7_code (9 : Nat) (Option.some (Jvm.ClassFile.FieldType.object "GathersAllFaults$Value"))) ∈ lw_all := lw_g (lw_at lw_m7 134 rfl) rfl
theorem q1712 : (Jvm.Cond.classLink "GathersAllFaults$Rec" (14 : Nat) "java/util/LinkedHashMap") ∈ lw_all := lw_g (lw_at lw_m7 135 rfl) rfl
theorem q1713 : (Jvm.Cond.methodLink "GathersAllFaults$Rec" (60 : Nat) ({ cls := "java/util/LinkedHashMap", name := "<init>", desc := "()V" } : Jvm.MethodName)) ∈ lw_all := lw_g (lw_at lw_m7 136 rfl) rfl
theorem q1714 : (Jvm.Cond.methodLink "GathersAllFaults$Rec" (61 : Nat) ({ cls := "java/util/LinkedHashMap", name := "put", desc := "(Ljava/lang/Object;Ljava/lang/Object;)Ljava/lang/Object;" } : Jvm.MethodName)) ∈ lw_all := lw_g (lw_at lw_m7 137 rfl) rfl
theorem q1715 : (Jvm.Cond.methodLink "GathersAllFaults$Rec" (65 : Nat) ({ cls := "GathersAllFaults$Rec", name := "<init>", desc := "(Ljava/util/LinkedHashMap;)V" } : Jvm.MethodName)) ∈ lw_all := lw_g (lw_at lw_m7 138 rfl) rfl
theorem q1772 : (Jvm.Cond.instanceMethod ({ cls := "GathersAllFaults$Rec", name := "total", desc := "()I" } : Jvm.MethodName)) ∈ lw_all := lw_g (lw_at lw_m7 195 rfl) rfl
theorem q1773 : (Jvm.Cond.code ({ cls := "GathersAllFaults$Rec", name := "total", desc := "()I" } : Jvm.MethodName) prog_16_method_5_code (6 : Nat) (Option.some Jvm.ClassFile.FieldType.int)) ∈ lw_all := lw_g (lw_at lw_m7 196 rfl) rfl
theorem q1774 : (Jvm.Cond.methodLink "GathersAllFaults$Rec" (57 : Nat) ({ cls := "GathersAllFaults$Value", name := "total", desc := "()I" } : Jvm.MethodName)) ∈ lw_all := lw_g (lw_at lw_m7 197 rfl) rfl
theorem q1777 : (Jvm.Cond.selects "GathersAllFaults$Rec" ({ cls := "GathersAllFaults$Value", name := "total", desc := "()I" } : Jvm.MethodName) ({ cls := "GathersAllFaults$Rec", name := "total", desc := "()I" } : Jvm.MethodName)) ∈ lw_all := lw_g (lw_at lw_m7 200 rfl) rfl
theorem q2737 : (Jvm.Cond.castable "GathersAllFaults$Rec" "GathersAllFaults$Value") ∈ lw_tbl := lw_at lw_m11 200 rfl
theorem q2753 : (Jvm.Cond.castable "GathersAllFaults$Rec" "java/lang/Object") ∈ lw_tbl := lw_at lw_m11 216 rfl
theorem in_X11 : ∀ w ∈ wsX110, w ∈ lw_all := lw_in wsX110 [1195, 1197] (by decide +kernel) (by decide +kernel)

/-! GathersAllFaults$Lst -/
set_option maxRecDepth 100000
def RX12 : String := "GathersAllFaults$Lst"
def TX12 : u_T := fun k => match k with
  | _ => ("GathersAllFaults$Lst", "elements", "[LGathersAllFaults$Value;", true)
def tyX12 : Nat → FieldType := fun k => match k with
  | _ => .array (.object "GathersAllFaults$Value")
abbrev wsX120 : List Cond := u_ws RX12 TX12 1
theorem nmX12 : ∀ a, a < 1 → ∀ b, b < 1 → a ≠ b → (TX12 a).2.1 ≠ (TX12 b).2.1 := by decide +kernel
theorem tyX12_ok : ∀ k, k < 1 → parseFieldDescriptor (TX12 k).2.2.1 = some (tyX12 k) := by decide +kernel
abbrev cX12_hashCode : ByteArray := prog_10_method_11_code
def yX12_hashCode : MethodName := ⟨RX12, "hashCode", "()I"⟩
def dkwX12_hashCode_1 : List UInt8 := [58, 5, 16, 31, 27, 104, 25, 5, 182, 0, 37, 96, 60, 132, 4, 1, 167, 255, 230, 27, 172]
abbrev dktX12_hashCode_1 : List UInt8 := dkwX12_hashCode_1 ++ []
def dkwX12_hashCode_0 : List UInt8 := [16, 17, 60, 42, 180, 0, 9, 77, 44, 190, 62, 3, 54, 4, 21, 4, 29, 162, 0, 26, 44, 21, 4, 50]
abbrev dktX12_hashCode_0 : List UInt8 := dkwX12_hashCode_0 ++ dktX12_hashCode_1
theorem dksX12_hashCode_0 : cX12_hashCode.data.toList.drop 0 = dktX12_hashCode_0 := by decide +kernel
theorem dksX12_hashCode_1 : cX12_hashCode.data.toList.drop 24 = dktX12_hashCode_1 := dk_seg dksX12_hashCode_0 24 rfl rfl
theorem dX12_hashCode_0 : decode cX12_hashCode 0 = .ok (.bipush 17, 2) := dk_16 17 (dk_at dksX12_hashCode_0 0 rfl rfl)
theorem dX12_hashCode_2 : decode cX12_hashCode 2 = .ok (.istore_n 1, 1) := dk_60 (dk_at dksX12_hashCode_0 2 rfl rfl)
theorem dX12_hashCode_3 : decode cX12_hashCode 3 = .ok (.aload_n 0, 1) := dk_42 (dk_at dksX12_hashCode_0 3 rfl rfl)
theorem dX12_hashCode_4 : decode cX12_hashCode 4 = .ok (.getfield 9, 3) := dk_180 0 9 (dk_at dksX12_hashCode_0 4 rfl rfl)
theorem dX12_hashCode_7 : decode cX12_hashCode 7 = .ok (.astore_n 2, 1) := dk_77 (dk_at dksX12_hashCode_0 7 rfl rfl)
theorem dX12_hashCode_8 : decode cX12_hashCode 8 = .ok (.aload_n 2, 1) := dk_44 (dk_at dksX12_hashCode_0 8 rfl rfl)
theorem dX12_hashCode_9 : decode cX12_hashCode 9 = .ok (.arraylength, 1) := dk_190 (dk_at dksX12_hashCode_0 9 rfl rfl)
theorem dX12_hashCode_10 : decode cX12_hashCode 10 = .ok (.istore_n 3, 1) := dk_62 (dk_at dksX12_hashCode_0 10 rfl rfl)
theorem dX12_hashCode_11 : decode cX12_hashCode 11 = .ok (.iconst 0, 1) := dk_3 (dk_at dksX12_hashCode_0 11 rfl rfl)
theorem dX12_hashCode_12 : decode cX12_hashCode 12 = .ok (.istore 4, 2) := dk_54 4 (dk_at dksX12_hashCode_0 12 rfl rfl)
theorem dX12_hashCode_14 : decode cX12_hashCode 14 = .ok (.iload 4, 2) := dk_21 4 (dk_at dksX12_hashCode_0 14 rfl rfl)
theorem dX12_hashCode_16 : decode cX12_hashCode 16 = .ok (.iload_n 3, 1) := dk_29 (dk_at dksX12_hashCode_0 16 rfl rfl)
theorem dX12_hashCode_17 : decode cX12_hashCode 17 = .ok (.if_icmp .ge 26, 3) := dk_162 0 26 (dk_at dksX12_hashCode_0 17 rfl rfl)
theorem dX12_hashCode_20 : decode cX12_hashCode 20 = .ok (.aload_n 2, 1) := dk_44 (dk_at dksX12_hashCode_0 20 rfl rfl)
theorem dX12_hashCode_21 : decode cX12_hashCode 21 = .ok (.iload 4, 2) := dk_21 4 (dk_at dksX12_hashCode_0 21 rfl rfl)
theorem dX12_hashCode_23 : decode cX12_hashCode 23 = .ok (.aaload, 1) := dk_50 (dk_at dksX12_hashCode_0 23 rfl rfl)
theorem dX12_hashCode_24 : decode cX12_hashCode 24 = .ok (.astore 5, 2) := dk_58 5 (dk_at dksX12_hashCode_1 0 rfl rfl)
theorem dX12_hashCode_26 : decode cX12_hashCode 26 = .ok (.bipush 31, 2) := dk_16 31 (dk_at dksX12_hashCode_1 2 rfl rfl)
theorem dX12_hashCode_28 : decode cX12_hashCode 28 = .ok (.iload_n 1, 1) := dk_27 (dk_at dksX12_hashCode_1 4 rfl rfl)
theorem dX12_hashCode_29 : decode cX12_hashCode 29 = .ok (.imul, 1) := dk_104 (dk_at dksX12_hashCode_1 5 rfl rfl)
theorem dX12_hashCode_30 : decode cX12_hashCode 30 = .ok (.aload 5, 2) := dk_25 5 (dk_at dksX12_hashCode_1 6 rfl rfl)
theorem dX12_hashCode_32 : decode cX12_hashCode 32 = .ok (.invokevirtual 37, 3) := dk_182 0 37 (dk_at dksX12_hashCode_1 8 rfl rfl)
theorem dX12_hashCode_35 : decode cX12_hashCode 35 = .ok (.iadd, 1) := dk_96 (dk_at dksX12_hashCode_1 11 rfl rfl)
theorem dX12_hashCode_36 : decode cX12_hashCode 36 = .ok (.istore_n 1, 1) := dk_60 (dk_at dksX12_hashCode_1 12 rfl rfl)
theorem dX12_hashCode_37 : decode cX12_hashCode 37 = .ok (.iinc 4 1, 3) := dk_132 4 1 (dk_at dksX12_hashCode_1 13 rfl rfl)
theorem dX12_hashCode_40 : decode cX12_hashCode 40 = .ok (.goto (-26), 3) := dk_167 255 230 (dk_at dksX12_hashCode_1 16 rfl rfl)
theorem dX12_hashCode_43 : decode cX12_hashCode 43 = .ok (.iload_n 1, 1) := dk_27 (dk_at dksX12_hashCode_1 19 rfl rfl)
theorem dX12_hashCode_44 : decode cX12_hashCode 44 = .ok (.ireturn, 1) := dk_172 (dk_at dksX12_hashCode_1 20 rfl rfl)
abbrev cX12_equals : ByteArray := prog_10_method_10_code
def yX12_equals : MethodName := ⟨RX12, "equals", "(Ljava/lang/Object;)Z"⟩
def dkwX12_equals_2 : List UInt8 := [180, 0, 9, 29, 50, 182, 0, 15, 154, 0, 5, 3, 172, 132, 3, 1, 167, 255, 224, 4, 172]
abbrev dktX12_equals_2 : List UInt8 := dkwX12_equals_2 ++ []
def dkwX12_equals_1 : List UInt8 := [159, 0, 5, 3, 172, 3, 62, 29, 42, 180, 0, 9, 190, 162, 0, 29, 42, 180, 0, 9, 29, 50, 44]
abbrev dktX12_equals_1 : List UInt8 := dkwX12_equals_1 ++ dktX12_equals_2
def dkwX12_equals_0 : List UInt8 := [43, 193, 0, 10, 153, 0, 21, 43, 192, 0, 10, 77, 44, 180, 0, 9, 190, 42, 180, 0, 9, 190]
abbrev dktX12_equals_0 : List UInt8 := dkwX12_equals_0 ++ dktX12_equals_1
theorem dksX12_equals_0 : cX12_equals.data.toList.drop 0 = dktX12_equals_0 := by decide +kernel
theorem dksX12_equals_1 : cX12_equals.data.toList.drop 22 = dktX12_equals_1 := dk_seg dksX12_equals_0 22 rfl rfl
theorem dksX12_equals_2 : cX12_equals.data.toList.drop 45 = dktX12_equals_2 := dk_seg dksX12_equals_1 23 rfl rfl
theorem dX12_equals_0 : decode cX12_equals 0 = .ok (.aload_n 1, 1) := dk_43 (dk_at dksX12_equals_0 0 rfl rfl)
theorem dX12_equals_1 : decode cX12_equals 1 = .ok (.instanceof 10, 3) := dk_193 0 10 (dk_at dksX12_equals_0 1 rfl rfl)
theorem dX12_equals_4 : decode cX12_equals 4 = .ok (.ifCond .eq 21, 3) := dk_153 0 21 (dk_at dksX12_equals_0 4 rfl rfl)
theorem dX12_equals_7 : decode cX12_equals 7 = .ok (.aload_n 1, 1) := dk_43 (dk_at dksX12_equals_0 7 rfl rfl)
theorem dX12_equals_8 : decode cX12_equals 8 = .ok (.checkcast 10, 3) := dk_192 0 10 (dk_at dksX12_equals_0 8 rfl rfl)
theorem dX12_equals_11 : decode cX12_equals 11 = .ok (.astore_n 2, 1) := dk_77 (dk_at dksX12_equals_0 11 rfl rfl)
theorem dX12_equals_12 : decode cX12_equals 12 = .ok (.aload_n 2, 1) := dk_44 (dk_at dksX12_equals_0 12 rfl rfl)
theorem dX12_equals_13 : decode cX12_equals 13 = .ok (.getfield 9, 3) := dk_180 0 9 (dk_at dksX12_equals_0 13 rfl rfl)
theorem dX12_equals_16 : decode cX12_equals 16 = .ok (.arraylength, 1) := dk_190 (dk_at dksX12_equals_0 16 rfl rfl)
theorem dX12_equals_17 : decode cX12_equals 17 = .ok (.aload_n 0, 1) := dk_42 (dk_at dksX12_equals_0 17 rfl rfl)
theorem dX12_equals_18 : decode cX12_equals 18 = .ok (.getfield 9, 3) := dk_180 0 9 (dk_at dksX12_equals_0 18 rfl rfl)
theorem dX12_equals_21 : decode cX12_equals 21 = .ok (.arraylength, 1) := dk_190 (dk_at dksX12_equals_0 21 rfl rfl)
theorem dX12_equals_22 : decode cX12_equals 22 = .ok (.if_icmp .eq 5, 3) := dk_159 0 5 (dk_at dksX12_equals_1 0 rfl rfl)
theorem dX12_equals_25 : decode cX12_equals 25 = .ok (.iconst 0, 1) := dk_3 (dk_at dksX12_equals_1 3 rfl rfl)
theorem dX12_equals_26 : decode cX12_equals 26 = .ok (.ireturn, 1) := dk_172 (dk_at dksX12_equals_1 4 rfl rfl)
theorem dX12_equals_27 : decode cX12_equals 27 = .ok (.iconst 0, 1) := dk_3 (dk_at dksX12_equals_1 5 rfl rfl)
theorem dX12_equals_28 : decode cX12_equals 28 = .ok (.istore_n 3, 1) := dk_62 (dk_at dksX12_equals_1 6 rfl rfl)
theorem dX12_equals_29 : decode cX12_equals 29 = .ok (.iload_n 3, 1) := dk_29 (dk_at dksX12_equals_1 7 rfl rfl)
theorem dX12_equals_30 : decode cX12_equals 30 = .ok (.aload_n 0, 1) := dk_42 (dk_at dksX12_equals_1 8 rfl rfl)
theorem dX12_equals_31 : decode cX12_equals 31 = .ok (.getfield 9, 3) := dk_180 0 9 (dk_at dksX12_equals_1 9 rfl rfl)
theorem dX12_equals_34 : decode cX12_equals 34 = .ok (.arraylength, 1) := dk_190 (dk_at dksX12_equals_1 12 rfl rfl)
theorem dX12_equals_35 : decode cX12_equals 35 = .ok (.if_icmp .ge 29, 3) := dk_162 0 29 (dk_at dksX12_equals_1 13 rfl rfl)
theorem dX12_equals_38 : decode cX12_equals 38 = .ok (.aload_n 0, 1) := dk_42 (dk_at dksX12_equals_1 16 rfl rfl)
theorem dX12_equals_39 : decode cX12_equals 39 = .ok (.getfield 9, 3) := dk_180 0 9 (dk_at dksX12_equals_1 17 rfl rfl)
theorem dX12_equals_42 : decode cX12_equals 42 = .ok (.iload_n 3, 1) := dk_29 (dk_at dksX12_equals_1 20 rfl rfl)
theorem dX12_equals_43 : decode cX12_equals 43 = .ok (.aaload, 1) := dk_50 (dk_at dksX12_equals_1 21 rfl rfl)
theorem dX12_equals_44 : decode cX12_equals 44 = .ok (.aload_n 2, 1) := dk_44 (dk_at dksX12_equals_1 22 rfl rfl)
theorem dX12_equals_45 : decode cX12_equals 45 = .ok (.getfield 9, 3) := dk_180 0 9 (dk_at dksX12_equals_2 0 rfl rfl)
theorem dX12_equals_48 : decode cX12_equals 48 = .ok (.iload_n 3, 1) := dk_29 (dk_at dksX12_equals_2 3 rfl rfl)
theorem dX12_equals_49 : decode cX12_equals 49 = .ok (.aaload, 1) := dk_50 (dk_at dksX12_equals_2 4 rfl rfl)
theorem dX12_equals_50 : decode cX12_equals 50 = .ok (.invokevirtual 15, 3) := dk_182 0 15 (dk_at dksX12_equals_2 5 rfl rfl)
theorem dX12_equals_53 : decode cX12_equals 53 = .ok (.ifCond .ne 5, 3) := dk_154 0 5 (dk_at dksX12_equals_2 8 rfl rfl)
theorem dX12_equals_56 : decode cX12_equals 56 = .ok (.iconst 0, 1) := dk_3 (dk_at dksX12_equals_2 11 rfl rfl)
theorem dX12_equals_57 : decode cX12_equals 57 = .ok (.ireturn, 1) := dk_172 (dk_at dksX12_equals_2 12 rfl rfl)
theorem dX12_equals_58 : decode cX12_equals 58 = .ok (.iinc 3 1, 3) := dk_132 3 1 (dk_at dksX12_equals_2 13 rfl rfl)
theorem dX12_equals_61 : decode cX12_equals 61 = .ok (.goto (-32), 3) := dk_167 255 224 (dk_at dksX12_equals_2 16 rfl rfl)
theorem dX12_equals_64 : decode cX12_equals 64 = .ok (.iconst 1, 1) := dk_4 (dk_at dksX12_equals_2 19 rfl rfl)
theorem dX12_equals_65 : decode cX12_equals 65 = .ok (.ireturn, 1) := dk_172 (dk_at dksX12_equals_2 20 rfl rfl)
abbrev cX12_init : ByteArray := prog_10_method_1_code
def yX12_init : MethodName := ⟨RX12, "<init>", "([LGathersAllFaults$Value;)V"⟩
def dkwX12_init_0 : List UInt8 := [42, 183, 0, 3, 42, 43, 181, 0, 9, 177]
abbrev dktX12_init_0 : List UInt8 := dkwX12_init_0 ++ []
theorem dksX12_init_0 : cX12_init.data.toList.drop 0 = dktX12_init_0 := by decide +kernel
theorem dX12_init_0 : decode cX12_init 0 = .ok (.aload_n 0, 1) := dk_42 (dk_at dksX12_init_0 0 rfl rfl)
theorem dX12_init_1 : decode cX12_init 1 = .ok (.invokespecial 3, 3) := dk_183 0 3 (dk_at dksX12_init_0 1 rfl rfl)
theorem dX12_init_4 : decode cX12_init 4 = .ok (.aload_n 0, 1) := dk_42 (dk_at dksX12_init_0 4 rfl rfl)
theorem dX12_init_5 : decode cX12_init 5 = .ok (.aload_n 1, 1) := dk_43 (dk_at dksX12_init_0 5 rfl rfl)
theorem dX12_init_6 : decode cX12_init 6 = .ok (.putfield 9, 3) := dk_181 0 9 (dk_at dksX12_init_0 6 rfl rfl)
theorem dX12_init_9 : decode cX12_init 9 = .ok (.return_, 1) := dk_177 (dk_at dksX12_init_0 9 rfl rfl)
abbrev cX12_size : ByteArray := prog_10_method_5_code
def yX12_size : MethodName := ⟨RX12, "size", "()I"⟩
def dkwX12_size_1 : List UInt8 := [58, 5, 27, 25, 5, 182, 0, 19, 96, 60, 132, 4, 1, 167, 255, 233, 27, 172]
abbrev dktX12_size_1 : List UInt8 := dkwX12_size_1 ++ []
def dkwX12_size_0 : List UInt8 := [4, 60, 42, 180, 0, 9, 77, 44, 190, 62, 3, 54, 4, 21, 4, 29, 162, 0, 23, 44, 21, 4, 50]
abbrev dktX12_size_0 : List UInt8 := dkwX12_size_0 ++ dktX12_size_1
theorem dksX12_size_0 : cX12_size.data.toList.drop 0 = dktX12_size_0 := by decide +kernel
theorem dksX12_size_1 : cX12_size.data.toList.drop 23 = dktX12_size_1 := dk_seg dksX12_size_0 23 rfl rfl
theorem dX12_size_0 : decode cX12_size 0 = .ok (.iconst 1, 1) := dk_4 (dk_at dksX12_size_0 0 rfl rfl)
theorem dX12_size_1 : decode cX12_size 1 = .ok (.istore_n 1, 1) := dk_60 (dk_at dksX12_size_0 1 rfl rfl)
theorem dX12_size_2 : decode cX12_size 2 = .ok (.aload_n 0, 1) := dk_42 (dk_at dksX12_size_0 2 rfl rfl)
theorem dX12_size_3 : decode cX12_size 3 = .ok (.getfield 9, 3) := dk_180 0 9 (dk_at dksX12_size_0 3 rfl rfl)
theorem dX12_size_6 : decode cX12_size 6 = .ok (.astore_n 2, 1) := dk_77 (dk_at dksX12_size_0 6 rfl rfl)
theorem dX12_size_7 : decode cX12_size 7 = .ok (.aload_n 2, 1) := dk_44 (dk_at dksX12_size_0 7 rfl rfl)
theorem dX12_size_8 : decode cX12_size 8 = .ok (.arraylength, 1) := dk_190 (dk_at dksX12_size_0 8 rfl rfl)
theorem dX12_size_9 : decode cX12_size 9 = .ok (.istore_n 3, 1) := dk_62 (dk_at dksX12_size_0 9 rfl rfl)
theorem dX12_size_10 : decode cX12_size 10 = .ok (.iconst 0, 1) := dk_3 (dk_at dksX12_size_0 10 rfl rfl)
theorem dX12_size_11 : decode cX12_size 11 = .ok (.istore 4, 2) := dk_54 4 (dk_at dksX12_size_0 11 rfl rfl)
theorem dX12_size_13 : decode cX12_size 13 = .ok (.iload 4, 2) := dk_21 4 (dk_at dksX12_size_0 13 rfl rfl)
theorem dX12_size_15 : decode cX12_size 15 = .ok (.iload_n 3, 1) := dk_29 (dk_at dksX12_size_0 15 rfl rfl)
theorem dX12_size_16 : decode cX12_size 16 = .ok (.if_icmp .ge 23, 3) := dk_162 0 23 (dk_at dksX12_size_0 16 rfl rfl)
theorem dX12_size_19 : decode cX12_size 19 = .ok (.aload_n 2, 1) := dk_44 (dk_at dksX12_size_0 19 rfl rfl)
theorem dX12_size_20 : decode cX12_size 20 = .ok (.iload 4, 2) := dk_21 4 (dk_at dksX12_size_0 20 rfl rfl)
theorem dX12_size_22 : decode cX12_size 22 = .ok (.aaload, 1) := dk_50 (dk_at dksX12_size_0 22 rfl rfl)
theorem dX12_size_23 : decode cX12_size 23 = .ok (.astore 5, 2) := dk_58 5 (dk_at dksX12_size_1 0 rfl rfl)
theorem dX12_size_25 : decode cX12_size 25 = .ok (.iload_n 1, 1) := dk_27 (dk_at dksX12_size_1 2 rfl rfl)
theorem dX12_size_26 : decode cX12_size 26 = .ok (.aload 5, 2) := dk_25 5 (dk_at dksX12_size_1 3 rfl rfl)
theorem dX12_size_28 : decode cX12_size 28 = .ok (.invokevirtual 19, 3) := dk_182 0 19 (dk_at dksX12_size_1 5 rfl rfl)
theorem dX12_size_31 : decode cX12_size 31 = .ok (.iadd, 1) := dk_96 (dk_at dksX12_size_1 8 rfl rfl)
theorem dX12_size_32 : decode cX12_size 32 = .ok (.istore_n 1, 1) := dk_60 (dk_at dksX12_size_1 9 rfl rfl)
theorem dX12_size_33 : decode cX12_size 33 = .ok (.iinc 4 1, 3) := dk_132 4 1 (dk_at dksX12_size_1 10 rfl rfl)
theorem dX12_size_36 : decode cX12_size 36 = .ok (.goto (-23), 3) := dk_167 255 233 (dk_at dksX12_size_1 13 rfl rfl)
theorem dX12_size_39 : decode cX12_size 39 = .ok (.iload_n 1, 1) := dk_27 (dk_at dksX12_size_1 16 rfl rfl)
theorem dX12_size_40 : decode cX12_size 40 = .ok (.ireturn, 1) := dk_172 (dk_at dksX12_size_1 17 rfl rfl)
abbrev cX12_many : ByteArray := prog_10_method_4_code
def yX12_many : MethodName := ⟨RX12, "many", "()I"⟩
def dkwX12_many_0 : List UInt8 := [42, 180, 0, 9, 190, 172]
abbrev dktX12_many_0 : List UInt8 := dkwX12_many_0 ++ []
theorem dksX12_many_0 : cX12_many.data.toList.drop 0 = dktX12_many_0 := by decide +kernel
theorem dX12_many_0 : decode cX12_many 0 = .ok (.aload_n 0, 1) := dk_42 (dk_at dksX12_many_0 0 rfl rfl)
theorem dX12_many_1 : decode cX12_many 1 = .ok (.getfield 9, 3) := dk_180 0 9 (dk_at dksX12_many_0 1 rfl rfl)
theorem dX12_many_4 : decode cX12_many 4 = .ok (.arraylength, 1) := dk_190 (dk_at dksX12_many_0 4 rfl rfl)
theorem dX12_many_5 : decode cX12_many 5 = .ok (.ireturn, 1) := dk_172 (dk_at dksX12_many_0 5 rfl rfl)
abbrev cX12_isAhead : ByteArray := prog_10_method_2_code
def yX12_isAhead : MethodName := ⟨RX12, "isAhead", "(I)Z"⟩
def dkwX12_isAhead_1 : List UInt8 := [153, 0, 5, 4, 172, 132, 2, 1, 167, 255, 228, 3, 172]
abbrev dktX12_isAhead_1 : List UInt8 := dkwX12_isAhead_1 ++ []
def dkwX12_isAhead_0 : List UInt8 := [3, 61, 28, 27, 162, 0, 29, 42, 180, 0, 9, 28, 50, 42, 180, 0, 9, 27, 50, 182, 0, 15]
abbrev dktX12_isAhead_0 : List UInt8 := dkwX12_isAhead_0 ++ dktX12_isAhead_1
theorem dksX12_isAhead_0 : cX12_isAhead.data.toList.drop 0 = dktX12_isAhead_0 := by decide +kernel
theorem dksX12_isAhead_1 : cX12_isAhead.data.toList.drop 22 = dktX12_isAhead_1 := dk_seg dksX12_isAhead_0 22 rfl rfl
theorem dX12_isAhead_0 : decode cX12_isAhead 0 = .ok (.iconst 0, 1) := dk_3 (dk_at dksX12_isAhead_0 0 rfl rfl)
theorem dX12_isAhead_1 : decode cX12_isAhead 1 = .ok (.istore_n 2, 1) := dk_61 (dk_at dksX12_isAhead_0 1 rfl rfl)
theorem dX12_isAhead_2 : decode cX12_isAhead 2 = .ok (.iload_n 2, 1) := dk_28 (dk_at dksX12_isAhead_0 2 rfl rfl)
theorem dX12_isAhead_3 : decode cX12_isAhead 3 = .ok (.iload_n 1, 1) := dk_27 (dk_at dksX12_isAhead_0 3 rfl rfl)
theorem dX12_isAhead_4 : decode cX12_isAhead 4 = .ok (.if_icmp .ge 29, 3) := dk_162 0 29 (dk_at dksX12_isAhead_0 4 rfl rfl)
theorem dX12_isAhead_7 : decode cX12_isAhead 7 = .ok (.aload_n 0, 1) := dk_42 (dk_at dksX12_isAhead_0 7 rfl rfl)
theorem dX12_isAhead_8 : decode cX12_isAhead 8 = .ok (.getfield 9, 3) := dk_180 0 9 (dk_at dksX12_isAhead_0 8 rfl rfl)
theorem dX12_isAhead_11 : decode cX12_isAhead 11 = .ok (.iload_n 2, 1) := dk_28 (dk_at dksX12_isAhead_0 11 rfl rfl)
theorem dX12_isAhead_12 : decode cX12_isAhead 12 = .ok (.aaload, 1) := dk_50 (dk_at dksX12_isAhead_0 12 rfl rfl)
theorem dX12_isAhead_13 : decode cX12_isAhead 13 = .ok (.aload_n 0, 1) := dk_42 (dk_at dksX12_isAhead_0 13 rfl rfl)
theorem dX12_isAhead_14 : decode cX12_isAhead 14 = .ok (.getfield 9, 3) := dk_180 0 9 (dk_at dksX12_isAhead_0 14 rfl rfl)
theorem dX12_isAhead_17 : decode cX12_isAhead 17 = .ok (.iload_n 1, 1) := dk_27 (dk_at dksX12_isAhead_0 17 rfl rfl)
theorem dX12_isAhead_18 : decode cX12_isAhead 18 = .ok (.aaload, 1) := dk_50 (dk_at dksX12_isAhead_0 18 rfl rfl)
theorem dX12_isAhead_19 : decode cX12_isAhead 19 = .ok (.invokevirtual 15, 3) := dk_182 0 15 (dk_at dksX12_isAhead_0 19 rfl rfl)
theorem dX12_isAhead_22 : decode cX12_isAhead 22 = .ok (.ifCond .eq 5, 3) := dk_153 0 5 (dk_at dksX12_isAhead_1 0 rfl rfl)
theorem dX12_isAhead_25 : decode cX12_isAhead 25 = .ok (.iconst 1, 1) := dk_4 (dk_at dksX12_isAhead_1 3 rfl rfl)
theorem dX12_isAhead_26 : decode cX12_isAhead 26 = .ok (.ireturn, 1) := dk_172 (dk_at dksX12_isAhead_1 4 rfl rfl)
theorem dX12_isAhead_27 : decode cX12_isAhead 27 = .ok (.iinc 2 1, 3) := dk_132 2 1 (dk_at dksX12_isAhead_1 5 rfl rfl)
theorem dX12_isAhead_30 : decode cX12_isAhead 30 = .ok (.goto (-28), 3) := dk_167 255 228 (dk_at dksX12_isAhead_1 8 rfl rfl)
theorem dX12_isAhead_33 : decode cX12_isAhead 33 = .ok (.iconst 0, 1) := dk_3 (dk_at dksX12_isAhead_1 11 rfl rfl)
theorem dX12_isAhead_34 : decode cX12_isAhead 34 = .ok (.ireturn, 1) := dk_172 (dk_at dksX12_isAhead_1 12 rfl rfl)
abbrev cX12_lay : ByteArray := prog_10_method_9_code
def yX12_lay : MethodName := ⟨RX12, "lay", "(LGathersAllFaults$Row;I)V"⟩
def dkwX12_lay_1 : List UInt8 := [8, 96, 29, 96, 182, 0, 33, 132, 3, 1, 167, 255, 224, 177]
abbrev dktX12_lay_1 : List UInt8 := dkwX12_lay_1 ++ []
def dkwX12_lay_0 : List UInt8 := [3, 62, 29, 42, 180, 0, 9, 190, 162, 0, 29, 42, 180, 0, 9, 29, 50, 43, 16, 10, 28, 104, 4, 96]
abbrev dktX12_lay_0 : List UInt8 := dkwX12_lay_0 ++ dktX12_lay_1
theorem dksX12_lay_0 : cX12_lay.data.toList.drop 0 = dktX12_lay_0 := by decide +kernel
theorem dksX12_lay_1 : cX12_lay.data.toList.drop 24 = dktX12_lay_1 := dk_seg dksX12_lay_0 24 rfl rfl
theorem dX12_lay_0 : decode cX12_lay 0 = .ok (.iconst 0, 1) := dk_3 (dk_at dksX12_lay_0 0 rfl rfl)
theorem dX12_lay_1 : decode cX12_lay 1 = .ok (.istore_n 3, 1) := dk_62 (dk_at dksX12_lay_0 1 rfl rfl)
theorem dX12_lay_2 : decode cX12_lay 2 = .ok (.iload_n 3, 1) := dk_29 (dk_at dksX12_lay_0 2 rfl rfl)
theorem dX12_lay_3 : decode cX12_lay 3 = .ok (.aload_n 0, 1) := dk_42 (dk_at dksX12_lay_0 3 rfl rfl)
theorem dX12_lay_4 : decode cX12_lay 4 = .ok (.getfield 9, 3) := dk_180 0 9 (dk_at dksX12_lay_0 4 rfl rfl)
theorem dX12_lay_7 : decode cX12_lay 7 = .ok (.arraylength, 1) := dk_190 (dk_at dksX12_lay_0 7 rfl rfl)
theorem dX12_lay_8 : decode cX12_lay 8 = .ok (.if_icmp .ge 29, 3) := dk_162 0 29 (dk_at dksX12_lay_0 8 rfl rfl)
theorem dX12_lay_11 : decode cX12_lay 11 = .ok (.aload_n 0, 1) := dk_42 (dk_at dksX12_lay_0 11 rfl rfl)
theorem dX12_lay_12 : decode cX12_lay 12 = .ok (.getfield 9, 3) := dk_180 0 9 (dk_at dksX12_lay_0 12 rfl rfl)
theorem dX12_lay_15 : decode cX12_lay 15 = .ok (.iload_n 3, 1) := dk_29 (dk_at dksX12_lay_0 15 rfl rfl)
theorem dX12_lay_16 : decode cX12_lay 16 = .ok (.aaload, 1) := dk_50 (dk_at dksX12_lay_0 16 rfl rfl)
theorem dX12_lay_17 : decode cX12_lay 17 = .ok (.aload_n 1, 1) := dk_43 (dk_at dksX12_lay_0 17 rfl rfl)
theorem dX12_lay_18 : decode cX12_lay 18 = .ok (.bipush 10, 2) := dk_16 10 (dk_at dksX12_lay_0 18 rfl rfl)
theorem dX12_lay_20 : decode cX12_lay 20 = .ok (.iload_n 2, 1) := dk_28 (dk_at dksX12_lay_0 20 rfl rfl)
theorem dX12_lay_21 : decode cX12_lay 21 = .ok (.imul, 1) := dk_104 (dk_at dksX12_lay_0 21 rfl rfl)
theorem dX12_lay_22 : decode cX12_lay 22 = .ok (.iconst 1, 1) := dk_4 (dk_at dksX12_lay_0 22 rfl rfl)
theorem dX12_lay_23 : decode cX12_lay 23 = .ok (.iadd, 1) := dk_96 (dk_at dksX12_lay_0 23 rfl rfl)
theorem dX12_lay_24 : decode cX12_lay 24 = .ok (.iconst 5, 1) := dk_8 (dk_at dksX12_lay_1 0 rfl rfl)
theorem dX12_lay_25 : decode cX12_lay 25 = .ok (.iadd, 1) := dk_96 (dk_at dksX12_lay_1 1 rfl rfl)
theorem dX12_lay_26 : decode cX12_lay 26 = .ok (.iload_n 3, 1) := dk_29 (dk_at dksX12_lay_1 2 rfl rfl)
theorem dX12_lay_27 : decode cX12_lay 27 = .ok (.iadd, 1) := dk_96 (dk_at dksX12_lay_1 3 rfl rfl)
theorem dX12_lay_28 : decode cX12_lay 28 = .ok (.invokevirtual 33, 3) := dk_182 0 33 (dk_at dksX12_lay_1 4 rfl rfl)
theorem dX12_lay_31 : decode cX12_lay 31 = .ok (.iinc 3 1, 3) := dk_132 3 1 (dk_at dksX12_lay_1 7 rfl rfl)
theorem dX12_lay_34 : decode cX12_lay 34 = .ok (.goto (-32), 3) := dk_167 255 224 (dk_at dksX12_lay_1 10 rfl rfl)
theorem dX12_lay_37 : decode cX12_lay 37 = .ok (.return_, 1) := dk_177 (dk_at dksX12_lay_1 13 rfl rfl)
abbrev cX12_kind : ByteArray := prog_10_method_3_code
def yX12_kind : MethodName := ⟨RX12, "kind", "()I"⟩
theorem dX12_kind_0 : decode cX12_kind 0 = .ok (.iconst 3, 1) := by decide +kernel
theorem dX12_kind_1 : decode cX12_kind 1 = .ok (.ireturn, 1) := by decide +kernel
abbrev cX12_step : ByteArray := prog_10_method_7_code
def yX12_step : MethodName := ⟨RX12, "step", "(I)LGathersAllFaults$Value;"⟩
def dkwX12_step_1 : List UInt8 := [180, 0, 9, 28, 50, 167, 0, 4, 1, 176]
abbrev dktX12_step_1 : List UInt8 := dkwX12_step_1 ++ []
def dkwX12_step_0 : List UInt8 := [27, 4, 100, 8, 100, 61, 28, 133, 9, 42, 180, 0, 9, 190, 4, 100, 133, 184, 0, 26, 153, 0, 12, 42]
abbrev dktX12_step_0 : List UInt8 := dkwX12_step_0 ++ dktX12_step_1
theorem dksX12_step_0 : cX12_step.data.toList.drop 0 = dktX12_step_0 := by decide +kernel
theorem dksX12_step_1 : cX12_step.data.toList.drop 24 = dktX12_step_1 := dk_seg dksX12_step_0 24 rfl rfl
theorem dX12_step_0 : decode cX12_step 0 = .ok (.iload_n 1, 1) := dk_27 (dk_at dksX12_step_0 0 rfl rfl)
theorem dX12_step_1 : decode cX12_step 1 = .ok (.iconst 1, 1) := dk_4 (dk_at dksX12_step_0 1 rfl rfl)
theorem dX12_step_2 : decode cX12_step 2 = .ok (.isub, 1) := dk_100 (dk_at dksX12_step_0 2 rfl rfl)
theorem dX12_step_3 : decode cX12_step 3 = .ok (.iconst 5, 1) := dk_8 (dk_at dksX12_step_0 3 rfl rfl)
theorem dX12_step_4 : decode cX12_step 4 = .ok (.isub, 1) := dk_100 (dk_at dksX12_step_0 4 rfl rfl)
theorem dX12_step_5 : decode cX12_step 5 = .ok (.istore_n 2, 1) := dk_61 (dk_at dksX12_step_0 5 rfl rfl)
theorem dX12_step_6 : decode cX12_step 6 = .ok (.iload_n 2, 1) := dk_28 (dk_at dksX12_step_0 6 rfl rfl)
theorem dX12_step_7 : decode cX12_step 7 = .ok (.i2l, 1) := dk_133 (dk_at dksX12_step_0 7 rfl rfl)
theorem dX12_step_8 : decode cX12_step 8 = .ok (.lconst 0, 1) := dk_9 (dk_at dksX12_step_0 8 rfl rfl)
theorem dX12_step_9 : decode cX12_step 9 = .ok (.aload_n 0, 1) := dk_42 (dk_at dksX12_step_0 9 rfl rfl)
theorem dX12_step_10 : decode cX12_step 10 = .ok (.getfield 9, 3) := dk_180 0 9 (dk_at dksX12_step_0 10 rfl rfl)
theorem dX12_step_13 : decode cX12_step 13 = .ok (.arraylength, 1) := dk_190 (dk_at dksX12_step_0 13 rfl rfl)
theorem dX12_step_14 : decode cX12_step 14 = .ok (.iconst 1, 1) := dk_4 (dk_at dksX12_step_0 14 rfl rfl)
theorem dX12_step_15 : decode cX12_step 15 = .ok (.isub, 1) := dk_100 (dk_at dksX12_step_0 15 rfl rfl)
theorem dX12_step_16 : decode cX12_step 16 = .ok (.i2l, 1) := dk_133 (dk_at dksX12_step_0 16 rfl rfl)
theorem dX12_step_17 : decode cX12_step 17 = .ok (.invokestatic 26, 3) := dk_184 0 26 (dk_at dksX12_step_0 17 rfl rfl)
theorem dX12_step_20 : decode cX12_step 20 = .ok (.ifCond .eq 12, 3) := dk_153 0 12 (dk_at dksX12_step_0 20 rfl rfl)
theorem dX12_step_23 : decode cX12_step 23 = .ok (.aload_n 0, 1) := dk_42 (dk_at dksX12_step_0 23 rfl rfl)
theorem dX12_step_24 : decode cX12_step 24 = .ok (.getfield 9, 3) := dk_180 0 9 (dk_at dksX12_step_1 0 rfl rfl)
theorem dX12_step_27 : decode cX12_step 27 = .ok (.iload_n 2, 1) := dk_28 (dk_at dksX12_step_1 3 rfl rfl)
theorem dX12_step_28 : decode cX12_step 28 = .ok (.aaload, 1) := dk_50 (dk_at dksX12_step_1 4 rfl rfl)
theorem dX12_step_29 : decode cX12_step 29 = .ok (.goto 4, 3) := dk_167 0 4 (dk_at dksX12_step_1 5 rfl rfl)
theorem dX12_step_32 : decode cX12_step 32 = .ok (.aconst_null, 1) := dk_1 (dk_at dksX12_step_1 8 rfl rfl)
theorem dX12_step_33 : decode cX12_step 33 = .ok (.areturn, 1) := dk_176 (dk_at dksX12_step_1 9 rfl rfl)
abbrev cX12_with : ByteArray := prog_10_method_8_code
def yX12_with : MethodName := ⟨RX12, "with", "(ILGathersAllFaults$Value;)LGathersAllFaults$Value;"⟩
def dkwX12_with_3 : List UInt8 := [21, 5, 25, 7, 83, 132, 5, 1, 132, 6, 1, 167, 255, 209, 187, 0, 10, 89, 25, 4, 183, 0, 30, 176]
abbrev dktX12_with_3 : List UInt8 := dkwX12_with_3 ++ []
def dkwX12_with_2 : List UInt8 := [29, 160, 0, 7, 44, 167, 0, 10, 42, 180, 0, 9, 21, 6, 50, 58, 7, 25, 7, 198, 0, 13, 25, 4]
abbrev dktX12_with_2 : List UInt8 := dkwX12_with_2 ++ dktX12_with_3
def dkwX12_with_1 : List UInt8 := [190, 189, 0, 4, 58, 4, 3, 54, 5, 3, 54, 6, 21, 6, 42, 180, 0, 9, 190, 162, 0, 43, 21, 6]
abbrev dktX12_with_1 : List UInt8 := dkwX12_with_1 ++ dktX12_with_2
def dkwX12_with_0 : List UInt8 := [27, 4, 100, 8, 100, 62, 44, 199, 0, 13, 42, 180, 0, 9, 190, 4, 100, 167, 0, 8, 42, 180, 0, 9]
abbrev dktX12_with_0 : List UInt8 := dkwX12_with_0 ++ dktX12_with_1
theorem dksX12_with_0 : cX12_with.data.toList.drop 0 = dktX12_with_0 := by decide +kernel
theorem dksX12_with_1 : cX12_with.data.toList.drop 24 = dktX12_with_1 := dk_seg dksX12_with_0 24 rfl rfl
theorem dksX12_with_2 : cX12_with.data.toList.drop 48 = dktX12_with_2 := dk_seg dksX12_with_1 24 rfl rfl
theorem dksX12_with_3 : cX12_with.data.toList.drop 72 = dktX12_with_3 := dk_seg dksX12_with_2 24 rfl rfl
theorem dX12_with_0 : decode cX12_with 0 = .ok (.iload_n 1, 1) := dk_27 (dk_at dksX12_with_0 0 rfl rfl)
theorem dX12_with_1 : decode cX12_with 1 = .ok (.iconst 1, 1) := dk_4 (dk_at dksX12_with_0 1 rfl rfl)
theorem dX12_with_2 : decode cX12_with 2 = .ok (.isub, 1) := dk_100 (dk_at dksX12_with_0 2 rfl rfl)
theorem dX12_with_3 : decode cX12_with 3 = .ok (.iconst 5, 1) := dk_8 (dk_at dksX12_with_0 3 rfl rfl)
theorem dX12_with_4 : decode cX12_with 4 = .ok (.isub, 1) := dk_100 (dk_at dksX12_with_0 4 rfl rfl)
theorem dX12_with_5 : decode cX12_with 5 = .ok (.istore_n 3, 1) := dk_62 (dk_at dksX12_with_0 5 rfl rfl)
theorem dX12_with_6 : decode cX12_with 6 = .ok (.aload_n 2, 1) := dk_44 (dk_at dksX12_with_0 6 rfl rfl)
theorem dX12_with_7 : decode cX12_with 7 = .ok (.ifnonnull 13, 3) := dk_199 0 13 (dk_at dksX12_with_0 7 rfl rfl)
theorem dX12_with_10 : decode cX12_with 10 = .ok (.aload_n 0, 1) := dk_42 (dk_at dksX12_with_0 10 rfl rfl)
theorem dX12_with_11 : decode cX12_with 11 = .ok (.getfield 9, 3) := dk_180 0 9 (dk_at dksX12_with_0 11 rfl rfl)
theorem dX12_with_14 : decode cX12_with 14 = .ok (.arraylength, 1) := dk_190 (dk_at dksX12_with_0 14 rfl rfl)
theorem dX12_with_15 : decode cX12_with 15 = .ok (.iconst 1, 1) := dk_4 (dk_at dksX12_with_0 15 rfl rfl)
theorem dX12_with_16 : decode cX12_with 16 = .ok (.isub, 1) := dk_100 (dk_at dksX12_with_0 16 rfl rfl)
theorem dX12_with_17 : decode cX12_with 17 = .ok (.goto 8, 3) := dk_167 0 8 (dk_at dksX12_with_0 17 rfl rfl)
theorem dX12_with_20 : decode cX12_with 20 = .ok (.aload_n 0, 1) := dk_42 (dk_at dksX12_with_0 20 rfl rfl)
theorem dX12_with_21 : decode cX12_with 21 = .ok (.getfield 9, 3) := dk_180 0 9 (dk_at dksX12_with_0 21 rfl rfl)
theorem dX12_with_24 : decode cX12_with 24 = .ok (.arraylength, 1) := dk_190 (dk_at dksX12_with_1 0 rfl rfl)
theorem dX12_with_25 : decode cX12_with 25 = .ok (.anewarray 4, 3) := dk_189 0 4 (dk_at dksX12_with_1 1 rfl rfl)
theorem dX12_with_28 : decode cX12_with 28 = .ok (.astore 4, 2) := dk_58 4 (dk_at dksX12_with_1 4 rfl rfl)
theorem dX12_with_30 : decode cX12_with 30 = .ok (.iconst 0, 1) := dk_3 (dk_at dksX12_with_1 6 rfl rfl)
theorem dX12_with_31 : decode cX12_with 31 = .ok (.istore 5, 2) := dk_54 5 (dk_at dksX12_with_1 7 rfl rfl)
theorem dX12_with_33 : decode cX12_with 33 = .ok (.iconst 0, 1) := dk_3 (dk_at dksX12_with_1 9 rfl rfl)
theorem dX12_with_34 : decode cX12_with 34 = .ok (.istore 6, 2) := dk_54 6 (dk_at dksX12_with_1 10 rfl rfl)
theorem dX12_with_36 : decode cX12_with 36 = .ok (.iload 6, 2) := dk_21 6 (dk_at dksX12_with_1 12 rfl rfl)
theorem dX12_with_38 : decode cX12_with 38 = .ok (.aload_n 0, 1) := dk_42 (dk_at dksX12_with_1 14 rfl rfl)
theorem dX12_with_39 : decode cX12_with 39 = .ok (.getfield 9, 3) := dk_180 0 9 (dk_at dksX12_with_1 15 rfl rfl)
theorem dX12_with_42 : decode cX12_with 42 = .ok (.arraylength, 1) := dk_190 (dk_at dksX12_with_1 18 rfl rfl)
theorem dX12_with_43 : decode cX12_with 43 = .ok (.if_icmp .ge 43, 3) := dk_162 0 43 (dk_at dksX12_with_1 19 rfl rfl)
theorem dX12_with_46 : decode cX12_with 46 = .ok (.iload 6, 2) := dk_21 6 (dk_at dksX12_with_1 22 rfl rfl)
theorem dX12_with_48 : decode cX12_with 48 = .ok (.iload_n 3, 1) := dk_29 (dk_at dksX12_with_2 0 rfl rfl)
theorem dX12_with_49 : decode cX12_with 49 = .ok (.if_icmp .ne 7, 3) := dk_160 0 7 (dk_at dksX12_with_2 1 rfl rfl)
theorem dX12_with_52 : decode cX12_with 52 = .ok (.aload_n 2, 1) := dk_44 (dk_at dksX12_with_2 4 rfl rfl)
theorem dX12_with_53 : decode cX12_with 53 = .ok (.goto 10, 3) := dk_167 0 10 (dk_at dksX12_with_2 5 rfl rfl)
theorem dX12_with_56 : decode cX12_with 56 = .ok (.aload_n 0, 1) := dk_42 (dk_at dksX12_with_2 8 rfl rfl)
theorem dX12_with_57 : decode cX12_with 57 = .ok (.getfield 9, 3) := dk_180 0 9 (dk_at dksX12_with_2 9 rfl rfl)
theorem dX12_with_60 : decode cX12_with 60 = .ok (.iload 6, 2) := dk_21 6 (dk_at dksX12_with_2 12 rfl rfl)
theorem dX12_with_62 : decode cX12_with 62 = .ok (.aaload, 1) := dk_50 (dk_at dksX12_with_2 14 rfl rfl)
theorem dX12_with_63 : decode cX12_with 63 = .ok (.astore 7, 2) := dk_58 7 (dk_at dksX12_with_2 15 rfl rfl)
theorem dX12_with_65 : decode cX12_with 65 = .ok (.aload 7, 2) := dk_25 7 (dk_at dksX12_with_2 17 rfl rfl)
theorem dX12_with_67 : decode cX12_with 67 = .ok (.ifnull 13, 3) := dk_198 0 13 (dk_at dksX12_with_2 19 rfl rfl)
theorem dX12_with_70 : decode cX12_with 70 = .ok (.aload 4, 2) := dk_25 4 (dk_at dksX12_with_2 22 rfl rfl)
theorem dX12_with_72 : decode cX12_with 72 = .ok (.iload 5, 2) := dk_21 5 (dk_at dksX12_with_3 0 rfl rfl)
theorem dX12_with_74 : decode cX12_with 74 = .ok (.aload 7, 2) := dk_25 7 (dk_at dksX12_with_3 2 rfl rfl)
theorem dX12_with_76 : decode cX12_with 76 = .ok (.aastore, 1) := dk_83 (dk_at dksX12_with_3 4 rfl rfl)
theorem dX12_with_77 : decode cX12_with 77 = .ok (.iinc 5 1, 3) := dk_132 5 1 (dk_at dksX12_with_3 5 rfl rfl)
theorem dX12_with_80 : decode cX12_with 80 = .ok (.iinc 6 1, 3) := dk_132 6 1 (dk_at dksX12_with_3 8 rfl rfl)
theorem dX12_with_83 : decode cX12_with 83 = .ok (.goto (-47), 3) := dk_167 255 209 (dk_at dksX12_with_3 11 rfl rfl)
theorem dX12_with_86 : decode cX12_with 86 = .ok (.new 10, 3) := dk_187 0 10 (dk_at dksX12_with_3 14 rfl rfl)
theorem dX12_with_89 : decode cX12_with 89 = .ok (.dup, 1) := dk_89 (dk_at dksX12_with_3 17 rfl rfl)
theorem dX12_with_90 : decode cX12_with 90 = .ok (.aload 4, 2) := dk_25 4 (dk_at dksX12_with_3 18 rfl rfl)
theorem dX12_with_92 : decode cX12_with 92 = .ok (.invokespecial 30, 3) := dk_183 0 30 (dk_at dksX12_with_3 20 rfl rfl)
theorem dX12_with_95 : decode cX12_with 95 = .ok (.areturn, 1) := dk_176 (dk_at dksX12_with_3 23 rfl rfl)
abbrev cX12_total : ByteArray := prog_10_method_6_code
def yX12_total : MethodName := ⟨RX12, "total", "()I"⟩
def dkwX12_total_1 : List UInt8 := [58, 5, 27, 25, 5, 182, 0, 23, 96, 60, 132, 4, 1, 167, 255, 233, 27, 172]
abbrev dktX12_total_1 : List UInt8 := dkwX12_total_1 ++ []
def dkwX12_total_0 : List UInt8 := [3, 60, 42, 180, 0, 9, 77, 44, 190, 62, 3, 54, 4, 21, 4, 29, 162, 0, 23, 44, 21, 4, 50]
abbrev dktX12_total_0 : List UInt8 := dkwX12_total_0 ++ dktX12_total_1
theorem dksX12_total_0 : cX12_total.data.toList.drop 0 = dktX12_total_0 := by decide +kernel
theorem dksX12_total_1 : cX12_total.data.toList.drop 23 = dktX12_total_1 := dk_seg dksX12_total_0 23 rfl rfl
theorem dX12_total_0 : decode cX12_total 0 = .ok (.iconst 0, 1) := dk_3 (dk_at dksX12_total_0 0 rfl rfl)
theorem dX12_total_1 : decode cX12_total 1 = .ok (.istore_n 1, 1) := dk_60 (dk_at dksX12_total_0 1 rfl rfl)
theorem dX12_total_2 : decode cX12_total 2 = .ok (.aload_n 0, 1) := dk_42 (dk_at dksX12_total_0 2 rfl rfl)
theorem dX12_total_3 : decode cX12_total 3 = .ok (.getfield 9, 3) := dk_180 0 9 (dk_at dksX12_total_0 3 rfl rfl)
theorem dX12_total_6 : decode cX12_total 6 = .ok (.astore_n 2, 1) := dk_77 (dk_at dksX12_total_0 6 rfl rfl)
theorem dX12_total_7 : decode cX12_total 7 = .ok (.aload_n 2, 1) := dk_44 (dk_at dksX12_total_0 7 rfl rfl)
theorem dX12_total_8 : decode cX12_total 8 = .ok (.arraylength, 1) := dk_190 (dk_at dksX12_total_0 8 rfl rfl)
theorem dX12_total_9 : decode cX12_total 9 = .ok (.istore_n 3, 1) := dk_62 (dk_at dksX12_total_0 9 rfl rfl)
theorem dX12_total_10 : decode cX12_total 10 = .ok (.iconst 0, 1) := dk_3 (dk_at dksX12_total_0 10 rfl rfl)
theorem dX12_total_11 : decode cX12_total 11 = .ok (.istore 4, 2) := dk_54 4 (dk_at dksX12_total_0 11 rfl rfl)
theorem dX12_total_13 : decode cX12_total 13 = .ok (.iload 4, 2) := dk_21 4 (dk_at dksX12_total_0 13 rfl rfl)
theorem dX12_total_15 : decode cX12_total 15 = .ok (.iload_n 3, 1) := dk_29 (dk_at dksX12_total_0 15 rfl rfl)
theorem dX12_total_16 : decode cX12_total 16 = .ok (.if_icmp .ge 23, 3) := dk_162 0 23 (dk_at dksX12_total_0 16 rfl rfl)
theorem dX12_total_19 : decode cX12_total 19 = .ok (.aload_n 2, 1) := dk_44 (dk_at dksX12_total_0 19 rfl rfl)
theorem dX12_total_20 : decode cX12_total 20 = .ok (.iload 4, 2) := dk_21 4 (dk_at dksX12_total_0 20 rfl rfl)
theorem dX12_total_22 : decode cX12_total 22 = .ok (.aaload, 1) := dk_50 (dk_at dksX12_total_0 22 rfl rfl)
theorem dX12_total_23 : decode cX12_total 23 = .ok (.astore 5, 2) := dk_58 5 (dk_at dksX12_total_1 0 rfl rfl)
theorem dX12_total_25 : decode cX12_total 25 = .ok (.iload_n 1, 1) := dk_27 (dk_at dksX12_total_1 2 rfl rfl)
theorem dX12_total_26 : decode cX12_total 26 = .ok (.aload 5, 2) := dk_25 5 (dk_at dksX12_total_1 3 rfl rfl)
theorem dX12_total_28 : decode cX12_total 28 = .ok (.invokevirtual 23, 3) := dk_182 0 23 (dk_at dksX12_total_1 5 rfl rfl)
theorem dX12_total_31 : decode cX12_total 31 = .ok (.iadd, 1) := dk_96 (dk_at dksX12_total_1 8 rfl rfl)
theorem dX12_total_32 : decode cX12_total 32 = .ok (.istore_n 1, 1) := dk_60 (dk_at dksX12_total_1 9 rfl rfl)
theorem dX12_total_33 : decode cX12_total 33 = .ok (.iinc 4 1, 3) := dk_132 4 1 (dk_at dksX12_total_1 10 rfl rfl)
theorem dX12_total_36 : decode cX12_total 36 = .ok (.goto (-23), 3) := dk_167 255 233 (dk_at dksX12_total_1 13 rfl rfl)
theorem dX12_total_39 : decode cX12_total 39 = .ok (.iload_n 1, 1) := dk_27 (dk_at dksX12_total_1 16 rfl rfl)
theorem dX12_total_40 : decode cX12_total 40 = .ok (.ireturn, 1) := dk_172 (dk_at dksX12_total_1 17 rfl rfl)
theorem q172 : (Jvm.Cond.initialized "GathersAllFaults$Lst") ∈ lw_all := lw_g (lw_at lw_m1 35 rfl) rfl
theorem q613 : (Jvm.Cond.selects "GathersAllFaults$Lst" ({ cls := "java/lang/Object", name := "hashCode", desc := "()I" } : Jvm.MethodName) ({ cls := "GathersAllFaults$Lst", name := "hashCode", desc := "()I" } : Jvm.MethodName)) ∈ lw_all := lw_g (lw_at lw_m2 236 rfl) rfl
theorem q614 : (Jvm.Cond.instanceMethod ({ cls := "GathersAllFaults$Lst", name := "hashCode", desc := "()I" } : Jvm.MethodName)) ∈ lw_all := lw_g (lw_at lw_m2 237 rfl) rfl
theorem q615 : (Jvm.Cond.code ({ cls := "GathersAllFaults$Lst", name := "hashCode", desc := "()I" } : Jvm.MethodName) prog_10_method_11_code (6 : Nat) (Option.some Jvm.ClassFile.FieldType.int)) ∈ lw_all := lw_g (lw_at lw_m2 238 rfl) rfl
theorem q616 : (Jvm.Cond.methodLink "GathersAllFaults$Lst" (37 : Nat) ({ cls := "GathersAllFaults$Value", name := "hashCode", desc := "()I" } : Jvm.MethodName)) ∈ lw_all := lw_g (lw_at lw_m2 239 rfl) rfl
theorem q619 : (Jvm.Cond.selects "GathersAllFaults$Lst" ({ cls := "GathersAllFaults$Value", name := "hashCode", desc := "()I" } : Jvm.MethodName) ({ cls := "GathersAllFaults$Lst", name := "hashCode", desc := "()I" } : Jvm.MethodName)) ∈ lw_all := lw_g (lw_at lw_m3 2 rfl) rfl
theorem q675 : (Jvm.Cond.selects "GathersAllFaults$Lst" ({ cls := "java/lang/Object", name := "equals", desc := "(Ljava/lang/Object;)Z" } : Jvm.MethodName) ({ cls := "GathersAllFaults$Lst", name := "equals", desc := "(Ljava/lang/Object;)Z" } : Jvm.MethodName)) ∈ lw_all := lw_g (lw_at lw_m3 58 rfl) rfl
theorem q676 : (Jvm.Cond.instanceMethod ({ cls := "GathersAllFaults$Lst", name := "equals", desc := "(Ljava/lang/Object;)Z" } : Jvm.MethodName)) ∈ lw_all := lw_g (lw_at lw_m3 59 rfl) rfl
theorem q677 : (Jvm.Cond.code ({ cls := "GathersAllFaults$Lst", name := "equals", desc := "(Ljava/lang/Object;)Z" } : Jvm.MethodName) prog_10_method_10_code (4 : Nat) (Option.some Jvm.ClassFile.FieldType.boolean)) ∈ lw_all := lw_g (lw_at lw_m3 60 rfl) rfl
theorem q678 : (Jvm.Cond.classLink "GathersAllFaults$Lst" (10 : Nat) "GathersAllFaults$Lst") ∈ lw_all := lw_g (lw_at lw_m3 61 rfl) rfl
theorem q679 : (Jvm.Cond.methodLink "GathersAllFaults$Lst" (15 : Nat) ({ cls := "GathersAllFaults$Value", name := "equals", desc := "(Ljava/lang/Object;)Z" } : Jvm.MethodName)) ∈ lw_all := lw_g (lw_at lw_m3 62 rfl) rfl
theorem q682 : (Jvm.Cond.selects "GathersAllFaults$Lst" ({ cls := "GathersAllFaults$Value", name := "equals", desc := "(Ljava/lang/Object;)Z" } : Jvm.MethodName) ({ cls := "GathersAllFaults$Lst", name := "equals", desc := "(Ljava/lang/Object;)Z" } : Jvm.MethodName)) ∈ lw_all := lw_g (lw_at lw_m3 65 rfl) rfl
theorem q758 : (Jvm.Cond.selects "GathersAllFaults$Lst" ({ cls := "java/lang/Object", name := "getClass", desc := "()Ljava/lang/Class;" } : Jvm.MethodName) ({ cls := "java/lang/Object", name := "getClass", desc := "()Ljava/lang/Class;" } : Jvm.MethodName)) ∈ lw_all := lw_g (lw_at lw_m3 141 rfl) rfl
theorem q1213 : (Jvm.Cond.instantiable "GathersAllFaults$Lst" (1 : Nat)) ∈ lw_all := lw_g (lw_at lw_m5 116 rfl) rfl
theorem q1215 : (Jvm.Cond.instanceMethod ({ cls := "GathersAllFaults$Lst", name := "<init>", desc := "([LGathersAllFaults$Value;)V" } : Jvm.MethodName)) ∈ lw_all := lw_g (lw_at lw_m5 118 rfl) rfl
theorem q1216 : (Jvm.Cond.code ({ cls := "GathersAllFaults$Lst", name := "<init>", desc := "([LGathersAllFaults$Value;)V" } : Jvm.MethodName) prog_10_method_1_code (2 : Nat) (Option.none : Option Jvm.ClassFile.FieldType)) ∈ lw_all := lw_g (lw_at lw_m5 119 rfl) rfl
theorem q1217 : (Jvm.Cond.methodLinkNest "GathersAllFaults$Lst" (3 : Nat) ({ cls := "GathersAllFaults$Value", name := "<init>", desc := "()V" } : Jvm.MethodName) "GathersAllFaults") ∈ lw_tbl := lw_at lw_m5 120 rfl
theorem q1218 : (Jvm.Cond.fieldLink "GathersAllFaults$Lst" (9 : Nat) "GathersAllFaults$Lst" "elements" "[LGathersAllFaults$Value;") ∈ lw_all := lw_g (lw_at lw_m5 121 rfl) rfl
theorem q1220 : (Jvm.Cond.laysFinal "GathersAllFaults$Lst" "GathersAllFaults$Lst" "elements" "[LGathersAllFaults$Value;") ∈ lw_all := lw_g (lw_at lw_m5 123 rfl) rfl
theorem q1221 : (Jvm.Cond.soleField "GathersAllFaults$Lst" "elements") ∈ lw_all := lw_g (lw_at lw_m5 124 rfl) rfl
theorem q1222 : (Jvm.Cond.superclass "GathersAllFaults$Lst" "GathersAllFaults$Value") ∈ lw_all := lw_g (lw_at lw_m5 125 rfl) rfl
theorem q1230 : (Jvm.Cond.selects "GathersAllFaults$Lst" ({ cls := "GathersAllFaults$Value", name := "size", desc := "()I" } : Jvm.MethodName) ({ cls := "GathersAllFaults$Lst", name := "size", desc := "()I" } : Jvm.MethodName)) ∈ lw_all := lw_g (lw_at lw_m5 133 rfl) rfl
theorem q1231 : (Jvm.Cond.instanceMethod ({ cls := "GathersAllFaults$Lst", name := "size", desc := "()I" } : Jvm.MethodName)) ∈ lw_all := lw_g (lw_at lw_m5 134 rfl) rfl
theorem q1232 : (Jvm.Cond.code ({ cls := "GathersAllFaults$Lst", name := "size", desc := "()I" } : Jvm.MethodName) prog_10_method_5_code (6 : Nat) (Option.some Jvm.ClassFile.FieldType.int)) ∈ lw_all := lw_g (lw_at lw_m5 135 rfl) rfl
theorem q1233 : (Jvm.Cond.methodLink "GathersAllFaults$Lst" (19 : Nat) ({ cls := "GathersAllFaults$Value", name := "size", desc := "()I" } : Jvm.MethodName)) ∈ lw_all := lw_g (lw_at lw_m5 136 rfl) rfl
theorem q1548 : (Jvm.Cond.instanceMethod ({ cls := "GathersAllFaults$Lst", name := "many", desc := "()I" } : Jvm.MethodName)) ∈ lw_all := lw_g (lw_at lw_m6 211 rfl) rfl
theorem q1549 : (Jvm.Cond.selects "GathersAllFaults$Lst" ({ cls := "GathersAllFaults$Lst", name := "many", desc := "()I" } : Jvm.MethodName) ({ cls := "GathersAllFaults$Lst", name := "many", desc := "()I" } : Jvm.MethodName)) ∈ lw_all := lw_g (lw_at lw_m6 212 rfl) rfl
theorem q1550 : (Jvm.Cond.code ({ cls := "GathersAllFaults$Lst", name := "many", desc := "()I" } : Jvm.MethodName) prog_10_method_4_code (1 : Nat) (Option.some Jvm.ClassFile.FieldType.int)) ∈ lw_all := lw_g (lw_at lw_m6 213 rfl) rfl
theorem q1565 : (Jvm.Cond.instanceMethod ({ cls := "GathersAllFaults$Lst", name := "isAhead", desc := "(I)Z" } : Jvm.MethodName)) ∈ lw_all := lw_g (lw_at lw_m6 228 rfl) rfl
theorem q1566 : (Jvm.Cond.selects "GathersAllFaults$Lst" ({ cls := "GathersAllFaults$Lst", name := "isAhead", desc := "(I)Z" } : Jvm.MethodName) ({ cls := "GathersAllFaults$Lst", name := "isAhead", desc := "(I)Z" } : Jvm.MethodName)) ∈ lw_all := lw_g (lw_at lw_m6 229 rfl) rfl
theorem q1567 : (Jvm.Cond.code ({ cls := "GathersAllFaults$Lst", name := "isAhead", desc := "(I)Z" } : Jvm.MethodName) prog_10_method_2_code (3 : Nat) (Option.some Jvm.ClassFile.FieldType.boolean)) ∈ lw_all := lw_g (lw_at lw_m6 230 rfl) rfl
theorem q1602 : (Jvm.Cond.selects "GathersAllFaults$Lst" ({ cls := "GathersAllFaults$Value", name := "layAll", desc := "(LGathersAllFaults$Row;I)V" } : Jvm.MethodName) ({ cls := "GathersAllFaults$Value", name := "layAll", desc := "(LGathersAllFaults$Row;I)V" } : Jvm.MethodName)) ∈ lw_all := lw_g (lw_at lw_m7 25 rfl) rfl
theorem q1626 : (Jvm.Cond.selects "GathersAllFaults$Lst" ({ cls := "GathersAllFaults$Value", name := "lay", desc := "(LGathersAllFaults$Row;I)V" } : Jvm.MethodName) ({ cls := "GathersAllFaults$Lst", name := "lay", desc := "(LGathersAllFaults$Row;I)V" } : Jvm.MethodName)) ∈ lw_all := lw_g (lw_at lw_m7 49 rfl) rfl
theorem q1627 : (Jvm.Cond.instanceMethod ({ cls := "GathersAllFaults$Lst", name := "lay", desc := "(LGathersAllFaults$Row;I)V" } : Jvm.MethodName)) ∈ lw_all := lw_g (lw_at lw_m7 50 rfl) rfl
theorem q1628 : (Jvm.Cond.code ({ cls := "GathersAllFaults$Lst", name := "lay", desc := "(LGathersAllFaults$Row;I)V" } : Jvm.MethodName) prog_10_method_9_code (4 : Nat) (Option.none : Option Jvm.ClassFile.FieldType)) ∈ lw_all := lw_g (lw_at lw_m7 51 rfl) rfl
theorem q1629 : (Jvm.Cond.methodLink "GathersAllFaults$Lst" (33 : Nat) ({ cls := "GathersAllFaults$Value", name := "layAll", desc := "(LGathersAllFaults$Row;I)V" } : Jvm.MethodName)) ∈ lw_all := lw_g (lw_at lw_m7 52 rfl) rfl
theorem q1646 : (Jvm.Cond.selects "GathersAllFaults$Lst" ({ cls := "GathersAllFaults$Value", name := "kind", desc := "()I" } : Jvm.MethodName) ({ cls := "GathersAllFaults$Lst", name := "kind", desc := "()I" } : Jvm.MethodName)) ∈ lw_all := lw_g (lw_at lw_m7 69 rfl) rfl
theorem q1647 : (Jvm.Cond.instanceMethod ({ cls := "GathersAllFaults$Lst", name := "kind", desc := "()I" } : Jvm.MethodName)) ∈ lw_all := lw_g (lw_at lw_m7 70 rfl) rfl
theorem q1648 : (Jvm.Cond.code ({ cls := "GathersAllFaults$Lst", name := "kind", desc := "()I" } : Jvm.MethodName) prog_10_method_3_code (1 : Nat) (Option.some Jvm.ClassFile.FieldType.int)) ∈ lw_all := lw_g (lw_at lw_m7 71 rfl) rfl
theorem q1661 : (Jvm.Cond.selects "GathersAllFaults$Lst" ({ cls := "GathersAllFaults$Value", name := "many", desc := "()I" } : Jvm.MethodName) ({ cls := "GathersAllFaults$Lst", name := "many", desc := "()I" } : Jvm.MethodName)) ∈ lw_all := lw_g (lw_at lw_m7 84 rfl) rfl
theorem q1684 : (Jvm.Cond.selects "GathersAllFaults$Lst" ({ cls := "GathersAllFaults$Value", name := "step", desc := "(I)LGathersAllFaults$Value;" } : Jvm.MethodName) ({ cls := "GathersAllFaults$Lst", name := "step", desc := "(I)LGathersAllFaults$Value;" } : Jvm.MethodName)) ∈ lw_all := lw_g (lw_at lw_m7 107 rfl) rfl
theorem q1685 : (Jvm.Cond.instanceMethod ({ cls := "GathersAllFaults$Lst", name := "step", desc := "(I)LGathersAllFaults$Value;" } : Jvm.MethodName)) ∈ lw_all := lw_g (lw_at lw_m7 108 rfl) rfl
theorem q1686 : (Jvm.Cond.code ({ cls := "GathersAllFaults$Lst", name := "step", desc := "(I)LGathersAllFaults$Value;" } : Jvm.MethodName) prog_10_method_7_code (3 : Nat) (Option.some (Jvm.ClassFile.FieldType.object "GathersAllFaults$Value"))) ∈ lw_all := lw_g (lw_at lw_m7 109 rfl) rfl
theorem q1687 : (Jvm.Cond.methodLinkNest "GathersAllFaults$Lst" (26 : Nat) ({ cls := "GathersAllFaults", name := "in", desc := "(JJJ)Z" } : Jvm.MethodName) "GathersAllFaults") ∈ lw_tbl := lw_at lw_m7 110 rfl
theorem q1698 : (Jvm.Cond.selects "GathersAllFaults$Lst" ({ cls := "GathersAllFaults$Value", name := "with", desc := "(ILGathersAllFaults$Value;)LGathersAllFaults$Value;" } : Jvm.MethodName) ({ cls := "GathersAllFaults$Lst", name := "with", desc := "(ILGathersAllFaults$Value;)LGathersAllFaults$Value;" } : Jvm.MethodName)) ∈ lw_all := lw_g (lw_at lw_m7 121 rfl) rfl
theorem q1699 : (Jvm.Cond.instanceMethod ({ cls := "GathersAllFaults$Lst", name := "with", desc := "(ILGathersAllFaults$Value;)LGathersAllFaults$Value;" } : Jvm.MethodName)) ∈ lw_all := lw_g (lw_at lw_m7 122 rfl) rfl
theorem q1700 : (Jvm.Cond.code ({ cls := "GathersAllFaults$Lst", name := "with", desc := "(ILGathersAllFaults$Value;)LGathersAllFaults$Value;" } : Jvm.MethodName) prog_10_method_8_code (8 : Nat) (Option.some (Jvm.ClassFile.FieldType.object "GathersAllFaults$Value"))) ∈ lw_all := lw_g (lw_at lw_m7 123 rfl) rfl
theorem q1701 : (Jvm.Cond.classLink "GathersAllFaults$Lst" (4 : Nat) "GathersAllFaults$Value") ∈ lw_all := lw_g (lw_at lw_m7 124 rfl) rfl
theorem q1702 : (Jvm.Cond.methodLink "GathersAllFaults$Lst" (30 : Nat) ({ cls := "GathersAllFaults$Lst", name := "<init>", desc := "([LGathersAllFaults$Value;)V" } : Jvm.MethodName)) ∈ lw_all := lw_g (lw_at lw_m7 125 rfl) rfl
theorem q1764 : (Jvm.Cond.selects "GathersAllFaults$Lst" ({ cls := "GathersAllFaults$Value", name := "total", desc := "()I" } : Jvm.MethodName) ({ cls := "GathersAllFaults$Lst", name := "total", desc := "()I" } : Jvm.MethodName)) ∈ lw_all := lw_g (lw_at lw_m7 187 rfl) rfl
theorem q1765 : (Jvm.Cond.instanceMethod ({ cls := "GathersAllFaults$Lst", name := "total", desc := "()I" } : Jvm.MethodName)) ∈ lw_all := lw_g (lw_at lw_m7 188 rfl) rfl
theorem q1766 : (Jvm.Cond.code ({ cls := "GathersAllFaults$Lst", name := "total", desc := "()I" } : Jvm.MethodName) prog_10_method_6_code (6 : Nat) (Option.some Jvm.ClassFile.FieldType.int)) ∈ lw_all := lw_g (lw_at lw_m7 189 rfl) rfl
theorem q1767 : (Jvm.Cond.methodLink "GathersAllFaults$Lst" (23 : Nat) ({ cls := "GathersAllFaults$Value", name := "total", desc := "()I" } : Jvm.MethodName)) ∈ lw_all := lw_g (lw_at lw_m7 190 rfl) rfl
theorem q2734 : (Jvm.Cond.castable "GathersAllFaults$Lst" "GathersAllFaults$Value") ∈ lw_tbl := lw_at lw_m11 197 rfl
theorem q2756 : (Jvm.Cond.castable "GathersAllFaults$Lst" "java/lang/Object") ∈ lw_tbl := lw_at lw_m11 219 rfl
theorem in_X12 : ∀ w ∈ wsX120, w ∈ lw_all := lw_in wsX120 [1220] (by decide +kernel) (by decide +kernel)

/-! GathersAllFaults$Found -/
set_option maxRecDepth 100000
def RX13 : String := "GathersAllFaults$Found"
def TX13 : u_T := fun k => match k with
  | 0 => ("GathersAllFaults$Found", "path", "I", false)
  | _ => ("GathersAllFaults$Found", "code", "I", false)
def tyX13 : Nat → FieldType := fun k => match k with
  | 0 => .int
  | _ => .int
abbrev wsX130 : List Cond := u_ws RX13 TX13 2
theorem nmX13 : ∀ a, a < 2 → ∀ b, b < 2 → a ≠ b → (TX13 a).2.1 ≠ (TX13 b).2.1 := by decide +kernel
theorem tyX13_ok : ∀ k, k < 2 → parseFieldDescriptor (TX13 k).2.2.1 = some (tyX13 k) := by decide +kernel
abbrev cX13_init : ByteArray := prog_7_method_1_code
def yX13_init : MethodName := ⟨RX13, "<init>", "()V"⟩
theorem dX13_init_0 : decode cX13_init 0 = .ok (.aload_n 0, 1) := by decide +kernel
theorem dX13_init_1 : decode cX13_init 1 = .ok (.invokespecial 1, 3) := by decide +kernel
theorem dX13_init_4 : decode cX13_init 4 = .ok (.return_, 1) := by decide +kernel
abbrev cX13_of : ByteArray := prog_7_method_2_code
def yX13_of : MethodName := ⟨RX13, "of", "(II)LGathersAllFaults$Found;"⟩
def dkwX13_of_0 : List UInt8 := [42, 27, 181, 0, 7, 42, 28, 181, 0, 13, 42, 176]
abbrev dktX13_of_0 : List UInt8 := dkwX13_of_0 ++ []
theorem dksX13_of_0 : cX13_of.data.toList.drop 0 = dktX13_of_0 := by decide +kernel
theorem dX13_of_0 : decode cX13_of 0 = .ok (.aload_n 0, 1) := dk_42 (dk_at dksX13_of_0 0 rfl rfl)
theorem dX13_of_1 : decode cX13_of 1 = .ok (.iload_n 1, 1) := dk_27 (dk_at dksX13_of_0 1 rfl rfl)
theorem dX13_of_2 : decode cX13_of 2 = .ok (.putfield 7, 3) := dk_181 0 7 (dk_at dksX13_of_0 2 rfl rfl)
theorem dX13_of_5 : decode cX13_of 5 = .ok (.aload_n 0, 1) := dk_42 (dk_at dksX13_of_0 5 rfl rfl)
theorem dX13_of_6 : decode cX13_of 6 = .ok (.iload_n 2, 1) := dk_28 (dk_at dksX13_of_0 6 rfl rfl)
theorem dX13_of_7 : decode cX13_of 7 = .ok (.putfield 13, 3) := dk_181 0 13 (dk_at dksX13_of_0 7 rfl rfl)
theorem dX13_of_10 : decode cX13_of 10 = .ok (.aload_n 0, 1) := dk_42 (dk_at dksX13_of_0 10 rfl rfl)
theorem dX13_of_11 : decode cX13_of 11 = .ok (.areturn, 1) := dk_176 (dk_at dksX13_of_0 11 rfl rfl)
abbrev cX13_path : ByteArray := prog_7_method_3_code
def yX13_path : MethodName := ⟨RX13, "path", "()I"⟩
theorem dX13_path_0 : decode cX13_path 0 = .ok (.aload_n 0, 1) := by decide +kernel
theorem dX13_path_1 : decode cX13_path 1 = .ok (.getfield 7, 3) := by decide +kernel
theorem dX13_path_4 : decode cX13_path 4 = .ok (.ireturn, 1) := by decide +kernel
abbrev cX13_told : ByteArray := prog_7_method_4_code
def yX13_told : MethodName := ⟨RX13, "told", "()I"⟩
def dkwX13_told_0 : List UInt8 := [16, 100, 42, 180, 0, 7, 104, 42, 180, 0, 13, 96, 172]
abbrev dktX13_told_0 : List UInt8 := dkwX13_told_0 ++ []
theorem dksX13_told_0 : cX13_told.data.toList.drop 0 = dktX13_told_0 := by decide +kernel
theorem dX13_told_0 : decode cX13_told 0 = .ok (.bipush 100, 2) := dk_16 100 (dk_at dksX13_told_0 0 rfl rfl)
theorem dX13_told_2 : decode cX13_told 2 = .ok (.aload_n 0, 1) := dk_42 (dk_at dksX13_told_0 2 rfl rfl)
theorem dX13_told_3 : decode cX13_told 3 = .ok (.getfield 7, 3) := dk_180 0 7 (dk_at dksX13_told_0 3 rfl rfl)
theorem dX13_told_6 : decode cX13_told 6 = .ok (.imul, 1) := dk_104 (dk_at dksX13_told_0 6 rfl rfl)
theorem dX13_told_7 : decode cX13_told 7 = .ok (.aload_n 0, 1) := dk_42 (dk_at dksX13_told_0 7 rfl rfl)
theorem dX13_told_8 : decode cX13_told 8 = .ok (.getfield 13, 3) := dk_180 0 13 (dk_at dksX13_told_0 8 rfl rfl)
theorem dX13_told_11 : decode cX13_told 11 = .ok (.iadd, 1) := dk_96 (dk_at dksX13_told_0 11 rfl rfl)
theorem dX13_told_12 : decode cX13_told 12 = .ok (.ireturn, 1) := dk_172 (dk_at dksX13_told_0 12 rfl rfl)
theorem q173 : (Jvm.Cond.initialized "GathersAllFaults$Found") ∈ lw_all := lw_g (lw_at lw_m1 36 rfl) rfl
theorem q611 : (Jvm.Cond.selects "GathersAllFaults$Found" ({ cls := "java/lang/Object", name := "hashCode", desc := "()I" } : Jvm.MethodName) ({ cls := "java/lang/Object", name := "hashCode", desc := "()I" } : Jvm.MethodName)) ∈ lw_all := lw_g (lw_at lw_m2 234 rfl) rfl
theorem q673 : (Jvm.Cond.selects "GathersAllFaults$Found" ({ cls := "java/lang/Object", name := "equals", desc := "(Ljava/lang/Object;)Z" } : Jvm.MethodName) ({ cls := "java/lang/Object", name := "equals", desc := "(Ljava/lang/Object;)Z" } : Jvm.MethodName)) ∈ lw_all := lw_g (lw_at lw_m3 56 rfl) rfl
theorem q756 : (Jvm.Cond.selects "GathersAllFaults$Found" ({ cls := "java/lang/Object", name := "getClass", desc := "()Ljava/lang/Class;" } : Jvm.MethodName) ({ cls := "java/lang/Object", name := "getClass", desc := "()Ljava/lang/Class;" } : Jvm.MethodName)) ∈ lw_all := lw_g (lw_at lw_m3 139 rfl) rfl
theorem q1270 : (Jvm.Cond.instantiable "GathersAllFaults$Found" (2 : Nat)) ∈ lw_all := lw_g (lw_at lw_m5 173 rfl) rfl
theorem q1272 : (Jvm.Cond.instanceMethod ({ cls := "GathersAllFaults$Found", name := "<init>", desc := "()V" } : Jvm.MethodName)) ∈ lw_all := lw_g (lw_at lw_m5 175 rfl) rfl
theorem q1273 : (Jvm.Cond.code ({ cls := "GathersAllFaults$Found", name := "<init>", desc := "()V" } : Jvm.MethodName) prog_7_method_1_code (1 : Nat) (Option.none : Option Jvm.ClassFile.FieldType)) ∈ lw_all := lw_g (lw_at lw_m5 176 rfl) rfl
theorem q1274 : (Jvm.Cond.methodLink "GathersAllFaults$Found" (1 : Nat) ({ cls := "java/lang/Object", name := "<init>", desc := "()V" } : Jvm.MethodName)) ∈ lw_all := lw_g (lw_at lw_m5 177 rfl) rfl
theorem q1275 : (Jvm.Cond.fieldLink "GathersAllFaults$Found" (7 : Nat) "GathersAllFaults$Found" "path" "I") ∈ lw_all := lw_g (lw_at lw_m5 178 rfl) rfl
theorem q1277 : (Jvm.Cond.fieldLink "GathersAllFaults$Found" (13 : Nat) "GathersAllFaults$Found" "code" "I") ∈ lw_all := lw_g (lw_at lw_m5 180 rfl) rfl
theorem q1279 : (Jvm.Cond.lays "GathersAllFaults$Found" "GathersAllFaults$Found" "path" "I") ∈ lw_all := lw_g (lw_at lw_m5 182 rfl) rfl
theorem q1280 : (Jvm.Cond.soleField "GathersAllFaults$Found" "path") ∈ lw_all := lw_g (lw_at lw_m5 183 rfl) rfl
theorem q1281 : (Jvm.Cond.lays "GathersAllFaults$Found" "GathersAllFaults$Found" "code" "I") ∈ lw_all := lw_g (lw_at lw_m5 184 rfl) rfl
theorem q1282 : (Jvm.Cond.soleField "GathersAllFaults$Found" "code") ∈ lw_all := lw_g (lw_at lw_m5 185 rfl) rfl
theorem q1283 : (Jvm.Cond.superclass "GathersAllFaults$Found" "java/lang/Object") ∈ lw_all := lw_g (lw_at lw_m5 186 rfl) rfl
theorem q1285 : (Jvm.Cond.instanceMethod ({ cls := "GathersAllFaults$Found", name := "of", desc := "(II)LGathersAllFaults$Found;" } : Jvm.MethodName)) ∈ lw_all := lw_g (lw_at lw_m5 188 rfl) rfl
theorem q1286 : (Jvm.Cond.selects "GathersAllFaults$Found" ({ cls := "GathersAllFaults$Found", name := "of", desc := "(II)LGathersAllFaults$Found;" } : Jvm.MethodName) ({ cls := "GathersAllFaults$Found", name := "of", desc := "(II)LGathersAllFaults$Found;" } : Jvm.MethodName)) ∈ lw_all := lw_g (lw_at lw_m5 189 rfl) rfl
theorem q1287 : (Jvm.Cond.code ({ cls := "GathersAllFaults$Found", name := "of", desc := "(II)LGathersAllFaults$Found;" } : Jvm.MethodName) prog_7_method_2_code (3 : Nat) (Option.some (Jvm.ClassFile.FieldType.object "GathersAllFaults$Found"))) ∈ lw_all := lw_g (lw_at lw_m5 190 rfl) rfl
theorem q1513 : (Jvm.Cond.castable "GathersAllFaults$Found" "GathersAllFaults$Placed") ∈ lw_tbl := lw_at lw_m6 176 rfl
theorem q1514 : (Jvm.Cond.selects "GathersAllFaults$Found" ({ cls := "GathersAllFaults$Placed", name := "path", desc := "()I" } : Jvm.MethodName) ({ cls := "GathersAllFaults$Found", name := "path", desc := "()I" } : Jvm.MethodName)) ∈ lw_all := lw_g (lw_at lw_m6 177 rfl) rfl
theorem q1515 : (Jvm.Cond.unhidden "GathersAllFaults$Found" "path" "()I") ∈ lw_tbl := lw_at lw_m6 178 rfl
theorem q1516 : (Jvm.Cond.instanceMethod ({ cls := "GathersAllFaults$Found", name := "path", desc := "()I" } : Jvm.MethodName)) ∈ lw_all := lw_g (lw_at lw_m6 179 rfl) rfl
theorem q1517 : (Jvm.Cond.publicMethod ({ cls := "GathersAllFaults$Found", name := "path", desc := "()I" } : Jvm.MethodName)) ∈ lw_tbl := lw_at lw_m6 180 rfl
theorem q1518 : (Jvm.Cond.code ({ cls := "GathersAllFaults$Found", name := "path", desc := "()I" } : Jvm.MethodName) prog_7_method_3_code (1 : Nat) (Option.some Jvm.ClassFile.FieldType.int)) ∈ lw_all := lw_g (lw_at lw_m6 181 rfl) rfl
theorem q1749 : (Jvm.Cond.instanceMethod ({ cls := "GathersAllFaults$Found", name := "told", desc := "()I" } : Jvm.MethodName)) ∈ lw_all := lw_g (lw_at lw_m7 172 rfl) rfl
theorem q1750 : (Jvm.Cond.selects "GathersAllFaults$Found" ({ cls := "GathersAllFaults$Found", name := "told", desc := "()I" } : Jvm.MethodName) ({ cls := "GathersAllFaults$Found", name := "told", desc := "()I" } : Jvm.MethodName)) ∈ lw_all := lw_g (lw_at lw_m7 173 rfl) rfl
theorem q1751 : (Jvm.Cond.code ({ cls := "GathersAllFaults$Found", name := "told", desc := "()I" } : Jvm.MethodName) prog_7_method_4_code (1 : Nat) (Option.some Jvm.ClassFile.FieldType.int)) ∈ lw_all := lw_g (lw_at lw_m7 174 rfl) rfl
theorem q2757 : (Jvm.Cond.castable "GathersAllFaults$Found" "java/lang/Object") ∈ lw_tbl := lw_at lw_m11 220 rfl
theorem in_X13 : ∀ w ∈ wsX130, w ∈ lw_all := lw_in wsX130 [1279, 1281] (by decide +kernel) (by decide +kernel)

/-! GathersAllFaults$Spec -/
set_option maxRecDepth 100000
def RX14 : String := "GathersAllFaults$Spec"
def TX14 : u_T := fun k => match k with
  | 0 => ("GathersAllFaults$Spec", "all", "[LGathersAllFaults$Field;", true)
  | 1 => ("GathersAllFaults$Spec", "fields", "I", false)
  | 2 => ("GathersAllFaults$Spec", "hung", "[LGathersAllFaults$Hanging;", true)
  | _ => ("GathersAllFaults$Spec", "hanging", "I", false)
def tyX14 : Nat → FieldType := fun k => match k with
  | 0 => .array (.object "GathersAllFaults$Field")
  | 1 => .int
  | 2 => .array (.object "GathersAllFaults$Hanging")
  | _ => .int
abbrev wsX140 : List Cond := u_ws RX14 TX14 4
theorem nmX14 : ∀ a, a < 4 → ∀ b, b < 4 → a ≠ b → (TX14 a).2.1 ≠ (TX14 b).2.1 := by decide +kernel
theorem tyX14_ok : ∀ k, k < 4 → parseFieldDescriptor (TX14 k).2.2.1 = some (tyX14 k) := by decide +kernel
abbrev cX14_init : ByteArray := prog_21_method_1_code
def yX14_init : MethodName := ⟨RX14, "<init>", "()V"⟩
def dkwX14_init_0 : List UInt8 := [42, 183, 0, 3, 42, 16, 96, 189, 0, 9, 181, 0, 11, 42, 16, 96, 189, 0, 17, 181, 0, 19, 177]
abbrev dktX14_init_0 : List UInt8 := dkwX14_init_0 ++ []
theorem dksX14_init_0 : cX14_init.data.toList.drop 0 = dktX14_init_0 := by decide +kernel
theorem dX14_init_0 : decode cX14_init 0 = .ok (.aload_n 0, 1) := dk_42 (dk_at dksX14_init_0 0 rfl rfl)
theorem dX14_init_1 : decode cX14_init 1 = .ok (.invokespecial 3, 3) := dk_183 0 3 (dk_at dksX14_init_0 1 rfl rfl)
theorem dX14_init_4 : decode cX14_init 4 = .ok (.aload_n 0, 1) := dk_42 (dk_at dksX14_init_0 4 rfl rfl)
theorem dX14_init_5 : decode cX14_init 5 = .ok (.bipush 96, 2) := dk_16 96 (dk_at dksX14_init_0 5 rfl rfl)
theorem dX14_init_7 : decode cX14_init 7 = .ok (.anewarray 9, 3) := dk_189 0 9 (dk_at dksX14_init_0 7 rfl rfl)
theorem dX14_init_10 : decode cX14_init 10 = .ok (.putfield 11, 3) := dk_181 0 11 (dk_at dksX14_init_0 10 rfl rfl)
theorem dX14_init_13 : decode cX14_init 13 = .ok (.aload_n 0, 1) := dk_42 (dk_at dksX14_init_0 13 rfl rfl)
theorem dX14_init_14 : decode cX14_init 14 = .ok (.bipush 96, 2) := dk_16 96 (dk_at dksX14_init_0 14 rfl rfl)
theorem dX14_init_16 : decode cX14_init 16 = .ok (.anewarray 17, 3) := dk_189 0 17 (dk_at dksX14_init_0 16 rfl rfl)
theorem dX14_init_19 : decode cX14_init 19 = .ok (.putfield 19, 3) := dk_181 0 19 (dk_at dksX14_init_0 19 rfl rfl)
theorem dX14_init_22 : decode cX14_init 22 = .ok (.return_, 1) := dk_177 (dk_at dksX14_init_0 22 rfl rfl)
abbrev cX14_isField : ByteArray := prog_21_method_2_code
def yX14_isField : MethodName := ⟨RX14, "isField", "(I)Z"⟩
def dkwX14_isField_1 : List UInt8 := [172, 132, 2, 1, 167, 255, 230, 3, 172]
abbrev dktX14_isField_1 : List UInt8 := dkwX14_isField_1 ++ []
def dkwX14_isField_0 : List UInt8 := [3, 61, 28, 42, 180, 0, 23, 162, 0, 24, 42, 180, 0, 11, 28, 50, 180, 0, 27, 27, 160, 0, 5, 4]
abbrev dktX14_isField_0 : List UInt8 := dkwX14_isField_0 ++ dktX14_isField_1
theorem dksX14_isField_0 : cX14_isField.data.toList.drop 0 = dktX14_isField_0 := by decide +kernel
theorem dksX14_isField_1 : cX14_isField.data.toList.drop 24 = dktX14_isField_1 := dk_seg dksX14_isField_0 24 rfl rfl
theorem dX14_isField_0 : decode cX14_isField 0 = .ok (.iconst 0, 1) := dk_3 (dk_at dksX14_isField_0 0 rfl rfl)
theorem dX14_isField_1 : decode cX14_isField 1 = .ok (.istore_n 2, 1) := dk_61 (dk_at dksX14_isField_0 1 rfl rfl)
theorem dX14_isField_2 : decode cX14_isField 2 = .ok (.iload_n 2, 1) := dk_28 (dk_at dksX14_isField_0 2 rfl rfl)
theorem dX14_isField_3 : decode cX14_isField 3 = .ok (.aload_n 0, 1) := dk_42 (dk_at dksX14_isField_0 3 rfl rfl)
theorem dX14_isField_4 : decode cX14_isField 4 = .ok (.getfield 23, 3) := dk_180 0 23 (dk_at dksX14_isField_0 4 rfl rfl)
theorem dX14_isField_7 : decode cX14_isField 7 = .ok (.if_icmp .ge 24, 3) := dk_162 0 24 (dk_at dksX14_isField_0 7 rfl rfl)
theorem dX14_isField_10 : decode cX14_isField 10 = .ok (.aload_n 0, 1) := dk_42 (dk_at dksX14_isField_0 10 rfl rfl)
theorem dX14_isField_11 : decode cX14_isField 11 = .ok (.getfield 11, 3) := dk_180 0 11 (dk_at dksX14_isField_0 11 rfl rfl)
theorem dX14_isField_14 : decode cX14_isField 14 = .ok (.iload_n 2, 1) := dk_28 (dk_at dksX14_isField_0 14 rfl rfl)
theorem dX14_isField_15 : decode cX14_isField 15 = .ok (.aaload, 1) := dk_50 (dk_at dksX14_isField_0 15 rfl rfl)
theorem dX14_isField_16 : decode cX14_isField 16 = .ok (.getfield 27, 3) := dk_180 0 27 (dk_at dksX14_isField_0 16 rfl rfl)
theorem dX14_isField_19 : decode cX14_isField 19 = .ok (.iload_n 1, 1) := dk_27 (dk_at dksX14_isField_0 19 rfl rfl)
theorem dX14_isField_20 : decode cX14_isField 20 = .ok (.if_icmp .ne 5, 3) := dk_160 0 5 (dk_at dksX14_isField_0 20 rfl rfl)
theorem dX14_isField_23 : decode cX14_isField 23 = .ok (.iconst 1, 1) := dk_4 (dk_at dksX14_isField_0 23 rfl rfl)
theorem dX14_isField_24 : decode cX14_isField 24 = .ok (.ireturn, 1) := dk_172 (dk_at dksX14_isField_1 0 rfl rfl)
theorem dX14_isField_25 : decode cX14_isField 25 = .ok (.iinc 2 1, 3) := dk_132 2 1 (dk_at dksX14_isField_1 1 rfl rfl)
theorem dX14_isField_28 : decode cX14_isField 28 = .ok (.goto (-26), 3) := dk_167 255 230 (dk_at dksX14_isField_1 4 rfl rfl)
theorem dX14_isField_31 : decode cX14_isField 31 = .ok (.iconst 0, 1) := dk_3 (dk_at dksX14_isField_1 7 rfl rfl)
theorem dX14_isField_32 : decode cX14_isField 32 = .ok (.ireturn, 1) := dk_172 (dk_at dksX14_isField_1 8 rfl rfl)
abbrev cX14_field : ByteArray := prog_21_method_3_code
def yX14_field : MethodName := ⟨RX14, "field", "(IZLGathersAllFaults$Look;)V"⟩
def dkwX14_field_1 : List UInt8 := [4, 96, 181, 0, 23, 177]
abbrev dktX14_field_1 : List UInt8 := dkwX14_field_1 ++ []
def dkwX14_field_0 : List UInt8 := [42, 180, 0, 11, 42, 180, 0, 23, 187, 0, 9, 89, 27, 28, 45, 183, 0, 30, 83, 42, 89, 180, 0, 23]
abbrev dktX14_field_0 : List UInt8 := dkwX14_field_0 ++ dktX14_field_1
theorem dksX14_field_0 : cX14_field.data.toList.drop 0 = dktX14_field_0 := by decide +kernel
theorem dksX14_field_1 : cX14_field.data.toList.drop 24 = dktX14_field_1 := dk_seg dksX14_field_0 24 rfl rfl
theorem dX14_field_0 : decode cX14_field 0 = .ok (.aload_n 0, 1) := dk_42 (dk_at dksX14_field_0 0 rfl rfl)
theorem dX14_field_1 : decode cX14_field 1 = .ok (.getfield 11, 3) := dk_180 0 11 (dk_at dksX14_field_0 1 rfl rfl)
theorem dX14_field_4 : decode cX14_field 4 = .ok (.aload_n 0, 1) := dk_42 (dk_at dksX14_field_0 4 rfl rfl)
theorem dX14_field_5 : decode cX14_field 5 = .ok (.getfield 23, 3) := dk_180 0 23 (dk_at dksX14_field_0 5 rfl rfl)
theorem dX14_field_8 : decode cX14_field 8 = .ok (.new 9, 3) := dk_187 0 9 (dk_at dksX14_field_0 8 rfl rfl)
theorem dX14_field_11 : decode cX14_field 11 = .ok (.dup, 1) := dk_89 (dk_at dksX14_field_0 11 rfl rfl)
theorem dX14_field_12 : decode cX14_field 12 = .ok (.iload_n 1, 1) := dk_27 (dk_at dksX14_field_0 12 rfl rfl)
theorem dX14_field_13 : decode cX14_field 13 = .ok (.iload_n 2, 1) := dk_28 (dk_at dksX14_field_0 13 rfl rfl)
theorem dX14_field_14 : decode cX14_field 14 = .ok (.aload_n 3, 1) := dk_45 (dk_at dksX14_field_0 14 rfl rfl)
theorem dX14_field_15 : decode cX14_field 15 = .ok (.invokespecial 30, 3) := dk_183 0 30 (dk_at dksX14_field_0 15 rfl rfl)
theorem dX14_field_18 : decode cX14_field 18 = .ok (.aastore, 1) := dk_83 (dk_at dksX14_field_0 18 rfl rfl)
theorem dX14_field_19 : decode cX14_field 19 = .ok (.aload_n 0, 1) := dk_42 (dk_at dksX14_field_0 19 rfl rfl)
theorem dX14_field_20 : decode cX14_field 20 = .ok (.dup, 1) := dk_89 (dk_at dksX14_field_0 20 rfl rfl)
theorem dX14_field_21 : decode cX14_field 21 = .ok (.getfield 23, 3) := dk_180 0 23 (dk_at dksX14_field_0 21 rfl rfl)
theorem dX14_field_24 : decode cX14_field 24 = .ok (.iconst 1, 1) := dk_4 (dk_at dksX14_field_1 0 rfl rfl)
theorem dX14_field_25 : decode cX14_field 25 = .ok (.iadd, 1) := dk_96 (dk_at dksX14_field_1 1 rfl rfl)
theorem dX14_field_26 : decode cX14_field 26 = .ok (.putfield 23, 3) := dk_181 0 23 (dk_at dksX14_field_1 2 rfl rfl)
theorem dX14_field_29 : decode cX14_field 29 = .ok (.return_, 1) := dk_177 (dk_at dksX14_field_1 5 rfl rfl)
abbrev cX14_hangs : ByteArray := prog_21_method_4_code
def yX14_hangs : MethodName := ⟨RX14, "hangs", "(LGathersAllFaults$Both;III)V"⟩
def dkwX14_hangs_1 : List UInt8 := [180, 0, 33, 4, 96, 181, 0, 33, 177]
abbrev dktX14_hangs_1 : List UInt8 := dkwX14_hangs_1 ++ []
def dkwX14_hangs_0 : List UInt8 := [42, 180, 0, 19, 42, 180, 0, 33, 187, 0, 17, 89, 43, 28, 29, 21, 4, 183, 0, 36, 83, 42, 89]
abbrev dktX14_hangs_0 : List UInt8 := dkwX14_hangs_0 ++ dktX14_hangs_1
theorem dksX14_hangs_0 : cX14_hangs.data.toList.drop 0 = dktX14_hangs_0 := by decide +kernel
theorem dksX14_hangs_1 : cX14_hangs.data.toList.drop 23 = dktX14_hangs_1 := dk_seg dksX14_hangs_0 23 rfl rfl
theorem dX14_hangs_0 : decode cX14_hangs 0 = .ok (.aload_n 0, 1) := dk_42 (dk_at dksX14_hangs_0 0 rfl rfl)
theorem dX14_hangs_1 : decode cX14_hangs 1 = .ok (.getfield 19, 3) := dk_180 0 19 (dk_at dksX14_hangs_0 1 rfl rfl)
theorem dX14_hangs_4 : decode cX14_hangs 4 = .ok (.aload_n 0, 1) := dk_42 (dk_at dksX14_hangs_0 4 rfl rfl)
theorem dX14_hangs_5 : decode cX14_hangs 5 = .ok (.getfield 33, 3) := dk_180 0 33 (dk_at dksX14_hangs_0 5 rfl rfl)
theorem dX14_hangs_8 : decode cX14_hangs 8 = .ok (.new 17, 3) := dk_187 0 17 (dk_at dksX14_hangs_0 8 rfl rfl)
theorem dX14_hangs_11 : decode cX14_hangs 11 = .ok (.dup, 1) := dk_89 (dk_at dksX14_hangs_0 11 rfl rfl)
theorem dX14_hangs_12 : decode cX14_hangs 12 = .ok (.aload_n 1, 1) := dk_43 (dk_at dksX14_hangs_0 12 rfl rfl)
theorem dX14_hangs_13 : decode cX14_hangs 13 = .ok (.iload_n 2, 1) := dk_28 (dk_at dksX14_hangs_0 13 rfl rfl)
theorem dX14_hangs_14 : decode cX14_hangs 14 = .ok (.iload_n 3, 1) := dk_29 (dk_at dksX14_hangs_0 14 rfl rfl)
theorem dX14_hangs_15 : decode cX14_hangs 15 = .ok (.iload 4, 2) := dk_21 4 (dk_at dksX14_hangs_0 15 rfl rfl)
theorem dX14_hangs_17 : decode cX14_hangs 17 = .ok (.invokespecial 36, 3) := dk_183 0 36 (dk_at dksX14_hangs_0 17 rfl rfl)
theorem dX14_hangs_20 : decode cX14_hangs 20 = .ok (.aastore, 1) := dk_83 (dk_at dksX14_hangs_0 20 rfl rfl)
theorem dX14_hangs_21 : decode cX14_hangs 21 = .ok (.aload_n 0, 1) := dk_42 (dk_at dksX14_hangs_0 21 rfl rfl)
theorem dX14_hangs_22 : decode cX14_hangs 22 = .ok (.dup, 1) := dk_89 (dk_at dksX14_hangs_0 22 rfl rfl)
theorem dX14_hangs_23 : decode cX14_hangs 23 = .ok (.getfield 33, 3) := dk_180 0 33 (dk_at dksX14_hangs_1 0 rfl rfl)
theorem dX14_hangs_26 : decode cX14_hangs 26 = .ok (.iconst 1, 1) := dk_4 (dk_at dksX14_hangs_1 3 rfl rfl)
theorem dX14_hangs_27 : decode cX14_hangs 27 = .ok (.iadd, 1) := dk_96 (dk_at dksX14_hangs_1 4 rfl rfl)
theorem dX14_hangs_28 : decode cX14_hangs 28 = .ok (.putfield 33, 3) := dk_181 0 33 (dk_at dksX14_hangs_1 5 rfl rfl)
theorem dX14_hangs_31 : decode cX14_hangs 31 = .ok (.return_, 1) := dk_177 (dk_at dksX14_hangs_1 8 rfl rfl)
abbrev cX14_look : ByteArray := prog_21_method_8_code
def yX14_look : MethodName := ⟨RX14, "look", "()LGathersAllFaults$Look;"⟩
theorem dX14_look_0 : decode cX14_look 0 = .ok (.aload_n 0, 1) := by decide +kernel
theorem dX14_look_1 : decode cX14_look 1 = .ok (.invokedynamic 123, 5) := by decide +kernel
theorem dX14_look_6 : decode cX14_look 6 = .ok (.areturn, 1) := by decide +kernel
abbrev cX14_lookAt : ByteArray := prog_21_method_5_code
def yX14_lookAt : MethodName := ⟨RX14, "lookAt", "(LGathersAllFaults$Value;ILGathersAllFaults$Finding;)V"⟩
def dkwX14_lookAt_4 : List UInt8 := [21, 5, 181, 0, 51, 177]
abbrev dktX14_lookAt_4 : List UInt8 := dkwX14_lookAt_4 ++ []
def dkwX14_lookAt_3 : List UInt8 := [25, 4, 28, 25, 6, 182, 0, 64, 132, 7, 1, 167, 255, 228, 45, 25, 6, 182, 0, 68, 180, 0, 47]
abbrev dktX14_lookAt_3 : List UInt8 := dkwX14_lookAt_3 ++ dktX14_lookAt_4
def dkwX14_lookAt_2 : List UInt8 := [182, 0, 60, 3, 54, 7, 21, 7, 42, 180, 0, 33, 162, 0, 25, 42, 42, 180, 0, 19, 21, 7, 50]
abbrev dktX14_lookAt_2 : List UInt8 := dkwX14_lookAt_2 ++ dktX14_lookAt_3
def dkwX14_lookAt_1 : List UInt8 := [180, 0, 47, 180, 0, 51, 54, 5, 45, 180, 0, 47, 182, 0, 56, 58, 6, 42, 25, 4, 28, 25, 6]
abbrev dktX14_lookAt_1 : List UInt8 := dkwX14_lookAt_1 ++ dktX14_lookAt_2
def dkwX14_lookAt_0 : List UInt8 := [43, 193, 0, 39, 153, 0, 12, 43, 192, 0, 39, 58, 4, 167, 0, 10, 45, 28, 8, 182, 0, 41, 177, 45]
abbrev dktX14_lookAt_0 : List UInt8 := dkwX14_lookAt_0 ++ dktX14_lookAt_1
theorem dksX14_lookAt_0 : cX14_lookAt.data.toList.drop 0 = dktX14_lookAt_0 := by decide +kernel
theorem dksX14_lookAt_1 : cX14_lookAt.data.toList.drop 24 = dktX14_lookAt_1 := dk_seg dksX14_lookAt_0 24 rfl rfl
theorem dksX14_lookAt_2 : cX14_lookAt.data.toList.drop 47 = dktX14_lookAt_2 := dk_seg dksX14_lookAt_1 23 rfl rfl
theorem dksX14_lookAt_3 : cX14_lookAt.data.toList.drop 70 = dktX14_lookAt_3 := dk_seg dksX14_lookAt_2 23 rfl rfl
theorem dksX14_lookAt_4 : cX14_lookAt.data.toList.drop 93 = dktX14_lookAt_4 := dk_seg dksX14_lookAt_3 23 rfl rfl
theorem dX14_lookAt_0 : decode cX14_lookAt 0 = .ok (.aload_n 1, 1) := dk_43 (dk_at dksX14_lookAt_0 0 rfl rfl)
theorem dX14_lookAt_1 : decode cX14_lookAt 1 = .ok (.instanceof 39, 3) := dk_193 0 39 (dk_at dksX14_lookAt_0 1 rfl rfl)
theorem dX14_lookAt_4 : decode cX14_lookAt 4 = .ok (.ifCond .eq 12, 3) := dk_153 0 12 (dk_at dksX14_lookAt_0 4 rfl rfl)
theorem dX14_lookAt_7 : decode cX14_lookAt 7 = .ok (.aload_n 1, 1) := dk_43 (dk_at dksX14_lookAt_0 7 rfl rfl)
theorem dX14_lookAt_8 : decode cX14_lookAt 8 = .ok (.checkcast 39, 3) := dk_192 0 39 (dk_at dksX14_lookAt_0 8 rfl rfl)
theorem dX14_lookAt_11 : decode cX14_lookAt 11 = .ok (.astore 4, 2) := dk_58 4 (dk_at dksX14_lookAt_0 11 rfl rfl)
theorem dX14_lookAt_13 : decode cX14_lookAt 13 = .ok (.goto 10, 3) := dk_167 0 10 (dk_at dksX14_lookAt_0 13 rfl rfl)
theorem dX14_lookAt_16 : decode cX14_lookAt 16 = .ok (.aload_n 3, 1) := dk_45 (dk_at dksX14_lookAt_0 16 rfl rfl)
theorem dX14_lookAt_17 : decode cX14_lookAt 17 = .ok (.iload_n 2, 1) := dk_28 (dk_at dksX14_lookAt_0 17 rfl rfl)
theorem dX14_lookAt_18 : decode cX14_lookAt 18 = .ok (.iconst 5, 1) := dk_8 (dk_at dksX14_lookAt_0 18 rfl rfl)
theorem dX14_lookAt_19 : decode cX14_lookAt 19 = .ok (.invokevirtual 41, 3) := dk_182 0 41 (dk_at dksX14_lookAt_0 19 rfl rfl)
theorem dX14_lookAt_22 : decode cX14_lookAt 22 = .ok (.return_, 1) := dk_177 (dk_at dksX14_lookAt_0 22 rfl rfl)
theorem dX14_lookAt_23 : decode cX14_lookAt 23 = .ok (.aload_n 3, 1) := dk_45 (dk_at dksX14_lookAt_0 23 rfl rfl)
theorem dX14_lookAt_24 : decode cX14_lookAt 24 = .ok (.getfield 47, 3) := dk_180 0 47 (dk_at dksX14_lookAt_1 0 rfl rfl)
theorem dX14_lookAt_27 : decode cX14_lookAt 27 = .ok (.getfield 51, 3) := dk_180 0 51 (dk_at dksX14_lookAt_1 3 rfl rfl)
theorem dX14_lookAt_30 : decode cX14_lookAt 30 = .ok (.istore 5, 2) := dk_54 5 (dk_at dksX14_lookAt_1 6 rfl rfl)
theorem dX14_lookAt_32 : decode cX14_lookAt 32 = .ok (.aload_n 3, 1) := dk_45 (dk_at dksX14_lookAt_1 8 rfl rfl)
theorem dX14_lookAt_33 : decode cX14_lookAt 33 = .ok (.getfield 47, 3) := dk_180 0 47 (dk_at dksX14_lookAt_1 9 rfl rfl)
theorem dX14_lookAt_36 : decode cX14_lookAt 36 = .ok (.invokevirtual 56, 3) := dk_182 0 56 (dk_at dksX14_lookAt_1 12 rfl rfl)
theorem dX14_lookAt_39 : decode cX14_lookAt 39 = .ok (.astore 6, 2) := dk_58 6 (dk_at dksX14_lookAt_1 15 rfl rfl)
theorem dX14_lookAt_41 : decode cX14_lookAt 41 = .ok (.aload_n 0, 1) := dk_42 (dk_at dksX14_lookAt_1 17 rfl rfl)
theorem dX14_lookAt_42 : decode cX14_lookAt 42 = .ok (.aload 4, 2) := dk_25 4 (dk_at dksX14_lookAt_1 18 rfl rfl)
theorem dX14_lookAt_44 : decode cX14_lookAt 44 = .ok (.iload_n 2, 1) := dk_28 (dk_at dksX14_lookAt_1 20 rfl rfl)
theorem dX14_lookAt_45 : decode cX14_lookAt 45 = .ok (.aload 6, 2) := dk_25 6 (dk_at dksX14_lookAt_1 21 rfl rfl)
theorem dX14_lookAt_47 : decode cX14_lookAt 47 = .ok (.invokevirtual 60, 3) := dk_182 0 60 (dk_at dksX14_lookAt_2 0 rfl rfl)
theorem dX14_lookAt_50 : decode cX14_lookAt 50 = .ok (.iconst 0, 1) := dk_3 (dk_at dksX14_lookAt_2 3 rfl rfl)
theorem dX14_lookAt_51 : decode cX14_lookAt 51 = .ok (.istore 7, 2) := dk_54 7 (dk_at dksX14_lookAt_2 4 rfl rfl)
theorem dX14_lookAt_53 : decode cX14_lookAt 53 = .ok (.iload 7, 2) := dk_21 7 (dk_at dksX14_lookAt_2 6 rfl rfl)
theorem dX14_lookAt_55 : decode cX14_lookAt 55 = .ok (.aload_n 0, 1) := dk_42 (dk_at dksX14_lookAt_2 8 rfl rfl)
theorem dX14_lookAt_56 : decode cX14_lookAt 56 = .ok (.getfield 33, 3) := dk_180 0 33 (dk_at dksX14_lookAt_2 9 rfl rfl)
theorem dX14_lookAt_59 : decode cX14_lookAt 59 = .ok (.if_icmp .ge 25, 3) := dk_162 0 25 (dk_at dksX14_lookAt_2 12 rfl rfl)
theorem dX14_lookAt_62 : decode cX14_lookAt 62 = .ok (.aload_n 0, 1) := dk_42 (dk_at dksX14_lookAt_2 15 rfl rfl)
theorem dX14_lookAt_63 : decode cX14_lookAt 63 = .ok (.aload_n 0, 1) := dk_42 (dk_at dksX14_lookAt_2 16 rfl rfl)
theorem dX14_lookAt_64 : decode cX14_lookAt 64 = .ok (.getfield 19, 3) := dk_180 0 19 (dk_at dksX14_lookAt_2 17 rfl rfl)
theorem dX14_lookAt_67 : decode cX14_lookAt 67 = .ok (.iload 7, 2) := dk_21 7 (dk_at dksX14_lookAt_2 20 rfl rfl)
theorem dX14_lookAt_69 : decode cX14_lookAt 69 = .ok (.aaload, 1) := dk_50 (dk_at dksX14_lookAt_2 22 rfl rfl)
theorem dX14_lookAt_70 : decode cX14_lookAt 70 = .ok (.aload 4, 2) := dk_25 4 (dk_at dksX14_lookAt_3 0 rfl rfl)
theorem dX14_lookAt_72 : decode cX14_lookAt 72 = .ok (.iload_n 2, 1) := dk_28 (dk_at dksX14_lookAt_3 2 rfl rfl)
theorem dX14_lookAt_73 : decode cX14_lookAt 73 = .ok (.aload 6, 2) := dk_25 6 (dk_at dksX14_lookAt_3 3 rfl rfl)
theorem dX14_lookAt_75 : decode cX14_lookAt 75 = .ok (.invokevirtual 64, 3) := dk_182 0 64 (dk_at dksX14_lookAt_3 5 rfl rfl)
theorem dX14_lookAt_78 : decode cX14_lookAt 78 = .ok (.iinc 7 1, 3) := dk_132 7 1 (dk_at dksX14_lookAt_3 8 rfl rfl)
theorem dX14_lookAt_81 : decode cX14_lookAt 81 = .ok (.goto (-28), 3) := dk_167 255 228 (dk_at dksX14_lookAt_3 11 rfl rfl)
theorem dX14_lookAt_84 : decode cX14_lookAt 84 = .ok (.aload_n 3, 1) := dk_45 (dk_at dksX14_lookAt_3 14 rfl rfl)
theorem dX14_lookAt_85 : decode cX14_lookAt 85 = .ok (.aload 6, 2) := dk_25 6 (dk_at dksX14_lookAt_3 15 rfl rfl)
theorem dX14_lookAt_87 : decode cX14_lookAt 87 = .ok (.invokevirtual 68, 3) := dk_182 0 68 (dk_at dksX14_lookAt_3 17 rfl rfl)
theorem dX14_lookAt_90 : decode cX14_lookAt 90 = .ok (.getfield 47, 3) := dk_180 0 47 (dk_at dksX14_lookAt_3 20 rfl rfl)
theorem dX14_lookAt_93 : decode cX14_lookAt 93 = .ok (.iload 5, 2) := dk_21 5 (dk_at dksX14_lookAt_4 0 rfl rfl)
theorem dX14_lookAt_95 : decode cX14_lookAt 95 = .ok (.putfield 51, 3) := dk_181 0 51 (dk_at dksX14_lookAt_4 2 rfl rfl)
theorem dX14_lookAt_98 : decode cX14_lookAt 98 = .ok (.return_, 1) := dk_177 (dk_at dksX14_lookAt_4 5 rfl rfl)
abbrev cX14_independent : ByteArray := prog_21_method_6_code
def yX14_independent : MethodName := ⟨RX14, "independent", "(LGathersAllFaults$Rec;ILGathersAllFaults$Finding;)V"⟩
def dkwX14_independent_6 : List UInt8 := [182, 0, 41, 132, 6, 1, 167, 255, 217, 177]
abbrev dktX14_independent_6 : List UInt8 := dkwX14_independent_6 ++ []
def dkwX14_independent_5 : List UInt8 := [46, 54, 7, 42, 21, 7, 182, 0, 93, 154, 0, 16, 45, 16, 10, 28, 104, 21, 7, 96, 16, 7]
abbrev dktX14_independent_5 : List UInt8 := dkwX14_independent_5 ++ dktX14_independent_6
def dkwX14_independent_4 : List UInt8 := [180, 0, 89, 58, 4, 25, 4, 190, 54, 5, 3, 54, 6, 21, 6, 21, 5, 162, 0, 38, 25, 4, 21, 6]
abbrev dktX14_independent_4 : List UInt8 := dkwX14_independent_4 ++ dktX14_independent_5
def dkwX14_independent_3 : List UInt8 := [16, 10, 28, 104, 25, 5, 180, 0, 27, 96, 16, 6, 182, 0, 41, 132, 4, 1, 167, 255, 169, 43]
abbrev dktX14_independent_3 : List UInt8 := dkwX14_independent_3 ++ dktX14_independent_4
def dkwX14_independent_2 : List UInt8 := [25, 5, 180, 0, 27, 96, 45, 185, 0, 79, 4, 0, 167, 0, 27, 25, 5, 180, 0, 85, 154, 0, 19, 45]
abbrev dktX14_independent_2 : List UInt8 := dkwX14_independent_2 ++ dktX14_independent_3
def dkwX14_independent_1 : List UInt8 := [180, 0, 27, 182, 0, 72, 58, 6, 25, 6, 198, 0, 29, 25, 5, 180, 0, 75, 25, 6, 16, 10, 28, 104]
abbrev dktX14_independent_1 : List UInt8 := dkwX14_independent_1 ++ dktX14_independent_2
def dkwX14_independent_0 : List UInt8 := [3, 54, 4, 21, 4, 42, 180, 0, 23, 162, 0, 84, 42, 180, 0, 11, 21, 4, 50, 58, 5, 43, 25, 5]
abbrev dktX14_independent_0 : List UInt8 := dkwX14_independent_0 ++ dktX14_independent_1
theorem dksX14_independent_0 : cX14_independent.data.toList.drop 0 = dktX14_independent_0 := by decide +kernel
theorem dksX14_independent_1 : cX14_independent.data.toList.drop 24 = dktX14_independent_1 := dk_seg dksX14_independent_0 24 rfl rfl
theorem dksX14_independent_2 : cX14_independent.data.toList.drop 48 = dktX14_independent_2 := dk_seg dksX14_independent_1 24 rfl rfl
theorem dksX14_independent_3 : cX14_independent.data.toList.drop 72 = dktX14_independent_3 := dk_seg dksX14_independent_2 24 rfl rfl
theorem dksX14_independent_4 : cX14_independent.data.toList.drop 94 = dktX14_independent_4 := dk_seg dksX14_independent_3 22 rfl rfl
theorem dksX14_independent_5 : cX14_independent.data.toList.drop 118 = dktX14_independent_5 := dk_seg dksX14_independent_4 24 rfl rfl
theorem dksX14_independent_6 : cX14_independent.data.toList.drop 140 = dktX14_independent_6 := dk_seg dksX14_independent_5 22 rfl rfl
theorem dX14_independent_0 : decode cX14_independent 0 = .ok (.iconst 0, 1) := dk_3 (dk_at dksX14_independent_0 0 rfl rfl)
theorem dX14_independent_1 : decode cX14_independent 1 = .ok (.istore 4, 2) := dk_54 4 (dk_at dksX14_independent_0 1 rfl rfl)
theorem dX14_independent_3 : decode cX14_independent 3 = .ok (.iload 4, 2) := dk_21 4 (dk_at dksX14_independent_0 3 rfl rfl)
theorem dX14_independent_5 : decode cX14_independent 5 = .ok (.aload_n 0, 1) := dk_42 (dk_at dksX14_independent_0 5 rfl rfl)
theorem dX14_independent_6 : decode cX14_independent 6 = .ok (.getfield 23, 3) := dk_180 0 23 (dk_at dksX14_independent_0 6 rfl rfl)
theorem dX14_independent_9 : decode cX14_independent 9 = .ok (.if_icmp .ge 84, 3) := dk_162 0 84 (dk_at dksX14_independent_0 9 rfl rfl)
theorem dX14_independent_12 : decode cX14_independent 12 = .ok (.aload_n 0, 1) := dk_42 (dk_at dksX14_independent_0 12 rfl rfl)
theorem dX14_independent_13 : decode cX14_independent 13 = .ok (.getfield 11, 3) := dk_180 0 11 (dk_at dksX14_independent_0 13 rfl rfl)
theorem dX14_independent_16 : decode cX14_independent 16 = .ok (.iload 4, 2) := dk_21 4 (dk_at dksX14_independent_0 16 rfl rfl)
theorem dX14_independent_18 : decode cX14_independent 18 = .ok (.aaload, 1) := dk_50 (dk_at dksX14_independent_0 18 rfl rfl)
theorem dX14_independent_19 : decode cX14_independent 19 = .ok (.astore 5, 2) := dk_58 5 (dk_at dksX14_independent_0 19 rfl rfl)
theorem dX14_independent_21 : decode cX14_independent 21 = .ok (.aload_n 1, 1) := dk_43 (dk_at dksX14_independent_0 21 rfl rfl)
theorem dX14_independent_22 : decode cX14_independent 22 = .ok (.aload 5, 2) := dk_25 5 (dk_at dksX14_independent_0 22 rfl rfl)
theorem dX14_independent_24 : decode cX14_independent 24 = .ok (.getfield 27, 3) := dk_180 0 27 (dk_at dksX14_independent_1 0 rfl rfl)
theorem dX14_independent_27 : decode cX14_independent 27 = .ok (.invokevirtual 72, 3) := dk_182 0 72 (dk_at dksX14_independent_1 3 rfl rfl)
theorem dX14_independent_30 : decode cX14_independent 30 = .ok (.astore 6, 2) := dk_58 6 (dk_at dksX14_independent_1 6 rfl rfl)
theorem dX14_independent_32 : decode cX14_independent 32 = .ok (.aload 6, 2) := dk_25 6 (dk_at dksX14_independent_1 8 rfl rfl)
theorem dX14_independent_34 : decode cX14_independent 34 = .ok (.ifnull 29, 3) := dk_198 0 29 (dk_at dksX14_independent_1 10 rfl rfl)
theorem dX14_independent_37 : decode cX14_independent 37 = .ok (.aload 5, 2) := dk_25 5 (dk_at dksX14_independent_1 13 rfl rfl)
theorem dX14_independent_39 : decode cX14_independent 39 = .ok (.getfield 75, 3) := dk_180 0 75 (dk_at dksX14_independent_1 15 rfl rfl)
theorem dX14_independent_42 : decode cX14_independent 42 = .ok (.aload 6, 2) := dk_25 6 (dk_at dksX14_independent_1 18 rfl rfl)
theorem dX14_independent_44 : decode cX14_independent 44 = .ok (.bipush 10, 2) := dk_16 10 (dk_at dksX14_independent_1 20 rfl rfl)
theorem dX14_independent_46 : decode cX14_independent 46 = .ok (.iload_n 2, 1) := dk_28 (dk_at dksX14_independent_1 22 rfl rfl)
theorem dX14_independent_47 : decode cX14_independent 47 = .ok (.imul, 1) := dk_104 (dk_at dksX14_independent_1 23 rfl rfl)
theorem dX14_independent_48 : decode cX14_independent 48 = .ok (.aload 5, 2) := dk_25 5 (dk_at dksX14_independent_2 0 rfl rfl)
theorem dX14_independent_50 : decode cX14_independent 50 = .ok (.getfield 27, 3) := dk_180 0 27 (dk_at dksX14_independent_2 2 rfl rfl)
theorem dX14_independent_53 : decode cX14_independent 53 = .ok (.iadd, 1) := dk_96 (dk_at dksX14_independent_2 5 rfl rfl)
theorem dX14_independent_54 : decode cX14_independent 54 = .ok (.aload_n 3, 1) := dk_45 (dk_at dksX14_independent_2 6 rfl rfl)
theorem dX14_independent_55 : decode cX14_independent 55 = .ok (.invokeinterface 79 4, 5) := by decide +kernel
theorem dX14_independent_60 : decode cX14_independent 60 = .ok (.goto 27, 3) := dk_167 0 27 (dk_at dksX14_independent_2 12 rfl rfl)
theorem dX14_independent_63 : decode cX14_independent 63 = .ok (.aload 5, 2) := dk_25 5 (dk_at dksX14_independent_2 15 rfl rfl)
theorem dX14_independent_65 : decode cX14_independent 65 = .ok (.getfield 85, 3) := dk_180 0 85 (dk_at dksX14_independent_2 17 rfl rfl)
theorem dX14_independent_68 : decode cX14_independent 68 = .ok (.ifCond .ne 19, 3) := dk_154 0 19 (dk_at dksX14_independent_2 20 rfl rfl)
theorem dX14_independent_71 : decode cX14_independent 71 = .ok (.aload_n 3, 1) := dk_45 (dk_at dksX14_independent_2 23 rfl rfl)
theorem dX14_independent_72 : decode cX14_independent 72 = .ok (.bipush 10, 2) := dk_16 10 (dk_at dksX14_independent_3 0 rfl rfl)
theorem dX14_independent_74 : decode cX14_independent 74 = .ok (.iload_n 2, 1) := dk_28 (dk_at dksX14_independent_3 2 rfl rfl)
theorem dX14_independent_75 : decode cX14_independent 75 = .ok (.imul, 1) := dk_104 (dk_at dksX14_independent_3 3 rfl rfl)
theorem dX14_independent_76 : decode cX14_independent 76 = .ok (.aload 5, 2) := dk_25 5 (dk_at dksX14_independent_3 4 rfl rfl)
theorem dX14_independent_78 : decode cX14_independent 78 = .ok (.getfield 27, 3) := dk_180 0 27 (dk_at dksX14_independent_3 6 rfl rfl)
theorem dX14_independent_81 : decode cX14_independent 81 = .ok (.iadd, 1) := dk_96 (dk_at dksX14_independent_3 9 rfl rfl)
theorem dX14_independent_82 : decode cX14_independent 82 = .ok (.bipush 6, 2) := dk_16 6 (dk_at dksX14_independent_3 10 rfl rfl)
theorem dX14_independent_84 : decode cX14_independent 84 = .ok (.invokevirtual 41, 3) := dk_182 0 41 (dk_at dksX14_independent_3 12 rfl rfl)
theorem dX14_independent_87 : decode cX14_independent 87 = .ok (.iinc 4 1, 3) := dk_132 4 1 (dk_at dksX14_independent_3 15 rfl rfl)
theorem dX14_independent_90 : decode cX14_independent 90 = .ok (.goto (-87), 3) := dk_167 255 169 (dk_at dksX14_independent_3 18 rfl rfl)
theorem dX14_independent_93 : decode cX14_independent 93 = .ok (.aload_n 1, 1) := dk_43 (dk_at dksX14_independent_3 21 rfl rfl)
theorem dX14_independent_94 : decode cX14_independent 94 = .ok (.getfield 89, 3) := dk_180 0 89 (dk_at dksX14_independent_4 0 rfl rfl)
theorem dX14_independent_97 : decode cX14_independent 97 = .ok (.astore 4, 2) := dk_58 4 (dk_at dksX14_independent_4 3 rfl rfl)
theorem dX14_independent_99 : decode cX14_independent 99 = .ok (.aload 4, 2) := dk_25 4 (dk_at dksX14_independent_4 5 rfl rfl)
theorem dX14_independent_101 : decode cX14_independent 101 = .ok (.arraylength, 1) := dk_190 (dk_at dksX14_independent_4 7 rfl rfl)
theorem dX14_independent_102 : decode cX14_independent 102 = .ok (.istore 5, 2) := dk_54 5 (dk_at dksX14_independent_4 8 rfl rfl)
theorem dX14_independent_104 : decode cX14_independent 104 = .ok (.iconst 0, 1) := dk_3 (dk_at dksX14_independent_4 10 rfl rfl)
theorem dX14_independent_105 : decode cX14_independent 105 = .ok (.istore 6, 2) := dk_54 6 (dk_at dksX14_independent_4 11 rfl rfl)
theorem dX14_independent_107 : decode cX14_independent 107 = .ok (.iload 6, 2) := dk_21 6 (dk_at dksX14_independent_4 13 rfl rfl)
theorem dX14_independent_109 : decode cX14_independent 109 = .ok (.iload 5, 2) := dk_21 5 (dk_at dksX14_independent_4 15 rfl rfl)
theorem dX14_independent_111 : decode cX14_independent 111 = .ok (.if_icmp .ge 38, 3) := dk_162 0 38 (dk_at dksX14_independent_4 17 rfl rfl)
theorem dX14_independent_114 : decode cX14_independent 114 = .ok (.aload 4, 2) := dk_25 4 (dk_at dksX14_independent_4 20 rfl rfl)
theorem dX14_independent_116 : decode cX14_independent 116 = .ok (.iload 6, 2) := dk_21 6 (dk_at dksX14_independent_4 22 rfl rfl)
theorem dX14_independent_118 : decode cX14_independent 118 = .ok (.iaload, 1) := dk_46 (dk_at dksX14_independent_5 0 rfl rfl)
theorem dX14_independent_119 : decode cX14_independent 119 = .ok (.istore 7, 2) := dk_54 7 (dk_at dksX14_independent_5 1 rfl rfl)
theorem dX14_independent_121 : decode cX14_independent 121 = .ok (.aload_n 0, 1) := dk_42 (dk_at dksX14_independent_5 3 rfl rfl)
theorem dX14_independent_122 : decode cX14_independent 122 = .ok (.iload 7, 2) := dk_21 7 (dk_at dksX14_independent_5 4 rfl rfl)
theorem dX14_independent_124 : decode cX14_independent 124 = .ok (.invokevirtual 93, 3) := dk_182 0 93 (dk_at dksX14_independent_5 6 rfl rfl)
theorem dX14_independent_127 : decode cX14_independent 127 = .ok (.ifCond .ne 16, 3) := dk_154 0 16 (dk_at dksX14_independent_5 9 rfl rfl)
theorem dX14_independent_130 : decode cX14_independent 130 = .ok (.aload_n 3, 1) := dk_45 (dk_at dksX14_independent_5 12 rfl rfl)
theorem dX14_independent_131 : decode cX14_independent 131 = .ok (.bipush 10, 2) := dk_16 10 (dk_at dksX14_independent_5 13 rfl rfl)
theorem dX14_independent_133 : decode cX14_independent 133 = .ok (.iload_n 2, 1) := dk_28 (dk_at dksX14_independent_5 15 rfl rfl)
theorem dX14_independent_134 : decode cX14_independent 134 = .ok (.imul, 1) := dk_104 (dk_at dksX14_independent_5 16 rfl rfl)
theorem dX14_independent_135 : decode cX14_independent 135 = .ok (.iload 7, 2) := dk_21 7 (dk_at dksX14_independent_5 17 rfl rfl)
theorem dX14_independent_137 : decode cX14_independent 137 = .ok (.iadd, 1) := dk_96 (dk_at dksX14_independent_5 19 rfl rfl)
theorem dX14_independent_138 : decode cX14_independent 138 = .ok (.bipush 7, 2) := dk_16 7 (dk_at dksX14_independent_5 20 rfl rfl)
theorem dX14_independent_140 : decode cX14_independent 140 = .ok (.invokevirtual 41, 3) := dk_182 0 41 (dk_at dksX14_independent_6 0 rfl rfl)
theorem dX14_independent_143 : decode cX14_independent 143 = .ok (.iinc 6 1, 3) := dk_132 6 1 (dk_at dksX14_independent_6 3 rfl rfl)
theorem dX14_independent_146 : decode cX14_independent 146 = .ok (.goto (-39), 3) := dk_167 255 217 (dk_at dksX14_independent_6 6 rfl rfl)
theorem dX14_independent_149 : decode cX14_independent 149 = .ok (.return_, 1) := dk_177 (dk_at dksX14_independent_6 9 rfl rfl)
abbrev cX14_dependent : ByteArray := prog_21_method_7_code
def yX14_dependent : MethodName := ⟨RX14, "dependent", "(LGathersAllFaults$Hanging;LGathersAllFaults$Rec;ILGathersAllFaults$Finding;)V"⟩
def dkwX14_dependent_5 : List UInt8 := [180, 0, 120, 182, 0, 41, 177]
abbrev dktX14_dependent_5 : List UInt8 := dkwX14_dependent_5 ++ []
def dkwX14_dependent_4 : List UInt8 := [25, 5, 25, 6, 185, 0, 114, 3, 0, 154, 0, 21, 25, 4, 16, 10, 29, 104, 43, 180, 0, 100, 96, 43]
abbrev dktX14_dependent_4 : List UInt8 := dkwX14_dependent_4 ++ dktX14_dependent_5
def dkwX14_dependent_3 : List UInt8 := [21, 7, 154, 0, 17, 25, 4, 89, 180, 0, 107, 4, 96, 181, 0, 107, 167, 0, 37, 43, 180, 0, 110]
abbrev dktX14_dependent_3 : List UInt8 := dkwX14_dependent_3 ++ dktX14_dependent_4
def dkwX14_dependent_2 : List UInt8 := [16, 10, 29, 104, 43, 180, 0, 100, 96, 182, 0, 103, 96, 154, 0, 7, 4, 167, 0, 4, 3, 54, 7]
abbrev dktX14_dependent_2 : List UInt8 := dkwX14_dependent_2 ++ dktX14_dependent_3
def dkwX14_dependent_1 : List UInt8 := [198, 0, 44, 25, 6, 198, 0, 39, 25, 4, 16, 10, 29, 104, 43, 180, 0, 97, 96, 182, 0, 103, 25, 4]
abbrev dktX14_dependent_1 : List UInt8 := dkwX14_dependent_1 ++ dktX14_dependent_2
def dkwX14_dependent_0 : List UInt8 := [44, 43, 180, 0, 97, 182, 0, 72, 58, 5, 44, 43, 180, 0, 100, 182, 0, 72, 58, 6, 25, 5]
abbrev dktX14_dependent_0 : List UInt8 := dkwX14_dependent_0 ++ dktX14_dependent_1
theorem dksX14_dependent_0 : cX14_dependent.data.toList.drop 0 = dktX14_dependent_0 := by decide +kernel
theorem dksX14_dependent_1 : cX14_dependent.data.toList.drop 22 = dktX14_dependent_1 := dk_seg dksX14_dependent_0 22 rfl rfl
theorem dksX14_dependent_2 : cX14_dependent.data.toList.drop 46 = dktX14_dependent_2 := dk_seg dksX14_dependent_1 24 rfl rfl
theorem dksX14_dependent_3 : cX14_dependent.data.toList.drop 69 = dktX14_dependent_3 := dk_seg dksX14_dependent_2 23 rfl rfl
theorem dksX14_dependent_4 : cX14_dependent.data.toList.drop 92 = dktX14_dependent_4 := dk_seg dksX14_dependent_3 23 rfl rfl
theorem dksX14_dependent_5 : cX14_dependent.data.toList.drop 116 = dktX14_dependent_5 := dk_seg dksX14_dependent_4 24 rfl rfl
theorem dX14_dependent_0 : decode cX14_dependent 0 = .ok (.aload_n 2, 1) := dk_44 (dk_at dksX14_dependent_0 0 rfl rfl)
theorem dX14_dependent_1 : decode cX14_dependent 1 = .ok (.aload_n 1, 1) := dk_43 (dk_at dksX14_dependent_0 1 rfl rfl)
theorem dX14_dependent_2 : decode cX14_dependent 2 = .ok (.getfield 97, 3) := dk_180 0 97 (dk_at dksX14_dependent_0 2 rfl rfl)
theorem dX14_dependent_5 : decode cX14_dependent 5 = .ok (.invokevirtual 72, 3) := dk_182 0 72 (dk_at dksX14_dependent_0 5 rfl rfl)
theorem dX14_dependent_8 : decode cX14_dependent 8 = .ok (.astore 5, 2) := dk_58 5 (dk_at dksX14_dependent_0 8 rfl rfl)
theorem dX14_dependent_10 : decode cX14_dependent 10 = .ok (.aload_n 2, 1) := dk_44 (dk_at dksX14_dependent_0 10 rfl rfl)
theorem dX14_dependent_11 : decode cX14_dependent 11 = .ok (.aload_n 1, 1) := dk_43 (dk_at dksX14_dependent_0 11 rfl rfl)
theorem dX14_dependent_12 : decode cX14_dependent 12 = .ok (.getfield 100, 3) := dk_180 0 100 (dk_at dksX14_dependent_0 12 rfl rfl)
theorem dX14_dependent_15 : decode cX14_dependent 15 = .ok (.invokevirtual 72, 3) := dk_182 0 72 (dk_at dksX14_dependent_0 15 rfl rfl)
theorem dX14_dependent_18 : decode cX14_dependent 18 = .ok (.astore 6, 2) := dk_58 6 (dk_at dksX14_dependent_0 18 rfl rfl)
theorem dX14_dependent_20 : decode cX14_dependent 20 = .ok (.aload 5, 2) := dk_25 5 (dk_at dksX14_dependent_0 20 rfl rfl)
theorem dX14_dependent_22 : decode cX14_dependent 22 = .ok (.ifnull 44, 3) := dk_198 0 44 (dk_at dksX14_dependent_1 0 rfl rfl)
theorem dX14_dependent_25 : decode cX14_dependent 25 = .ok (.aload 6, 2) := dk_25 6 (dk_at dksX14_dependent_1 3 rfl rfl)
theorem dX14_dependent_27 : decode cX14_dependent 27 = .ok (.ifnull 39, 3) := dk_198 0 39 (dk_at dksX14_dependent_1 5 rfl rfl)
theorem dX14_dependent_30 : decode cX14_dependent 30 = .ok (.aload 4, 2) := dk_25 4 (dk_at dksX14_dependent_1 8 rfl rfl)
theorem dX14_dependent_32 : decode cX14_dependent 32 = .ok (.bipush 10, 2) := dk_16 10 (dk_at dksX14_dependent_1 10 rfl rfl)
theorem dX14_dependent_34 : decode cX14_dependent 34 = .ok (.iload_n 3, 1) := dk_29 (dk_at dksX14_dependent_1 12 rfl rfl)
theorem dX14_dependent_35 : decode cX14_dependent 35 = .ok (.imul, 1) := dk_104 (dk_at dksX14_dependent_1 13 rfl rfl)
theorem dX14_dependent_36 : decode cX14_dependent 36 = .ok (.aload_n 1, 1) := dk_43 (dk_at dksX14_dependent_1 14 rfl rfl)
theorem dX14_dependent_37 : decode cX14_dependent 37 = .ok (.getfield 97, 3) := dk_180 0 97 (dk_at dksX14_dependent_1 15 rfl rfl)
theorem dX14_dependent_40 : decode cX14_dependent 40 = .ok (.iadd, 1) := dk_96 (dk_at dksX14_dependent_1 18 rfl rfl)
theorem dX14_dependent_41 : decode cX14_dependent 41 = .ok (.invokevirtual 103, 3) := dk_182 0 103 (dk_at dksX14_dependent_1 19 rfl rfl)
theorem dX14_dependent_44 : decode cX14_dependent 44 = .ok (.aload 4, 2) := dk_25 4 (dk_at dksX14_dependent_1 22 rfl rfl)
theorem dX14_dependent_46 : decode cX14_dependent 46 = .ok (.bipush 10, 2) := dk_16 10 (dk_at dksX14_dependent_2 0 rfl rfl)
theorem dX14_dependent_48 : decode cX14_dependent 48 = .ok (.iload_n 3, 1) := dk_29 (dk_at dksX14_dependent_2 2 rfl rfl)
theorem dX14_dependent_49 : decode cX14_dependent 49 = .ok (.imul, 1) := dk_104 (dk_at dksX14_dependent_2 3 rfl rfl)
theorem dX14_dependent_50 : decode cX14_dependent 50 = .ok (.aload_n 1, 1) := dk_43 (dk_at dksX14_dependent_2 4 rfl rfl)
theorem dX14_dependent_51 : decode cX14_dependent 51 = .ok (.getfield 100, 3) := dk_180 0 100 (dk_at dksX14_dependent_2 5 rfl rfl)
theorem dX14_dependent_54 : decode cX14_dependent 54 = .ok (.iadd, 1) := dk_96 (dk_at dksX14_dependent_2 8 rfl rfl)
theorem dX14_dependent_55 : decode cX14_dependent 55 = .ok (.invokevirtual 103, 3) := dk_182 0 103 (dk_at dksX14_dependent_2 9 rfl rfl)
theorem dX14_dependent_58 : decode cX14_dependent 58 = .ok (.iadd, 1) := dk_96 (dk_at dksX14_dependent_2 12 rfl rfl)
theorem dX14_dependent_59 : decode cX14_dependent 59 = .ok (.ifCond .ne 7, 3) := dk_154 0 7 (dk_at dksX14_dependent_2 13 rfl rfl)
theorem dX14_dependent_62 : decode cX14_dependent 62 = .ok (.iconst 1, 1) := dk_4 (dk_at dksX14_dependent_2 16 rfl rfl)
theorem dX14_dependent_63 : decode cX14_dependent 63 = .ok (.goto 4, 3) := dk_167 0 4 (dk_at dksX14_dependent_2 17 rfl rfl)
theorem dX14_dependent_66 : decode cX14_dependent 66 = .ok (.iconst 0, 1) := dk_3 (dk_at dksX14_dependent_2 20 rfl rfl)
theorem dX14_dependent_67 : decode cX14_dependent 67 = .ok (.istore 7, 2) := dk_54 7 (dk_at dksX14_dependent_2 21 rfl rfl)
theorem dX14_dependent_69 : decode cX14_dependent 69 = .ok (.iload 7, 2) := dk_21 7 (dk_at dksX14_dependent_3 0 rfl rfl)
theorem dX14_dependent_71 : decode cX14_dependent 71 = .ok (.ifCond .ne 17, 3) := dk_154 0 17 (dk_at dksX14_dependent_3 2 rfl rfl)
theorem dX14_dependent_74 : decode cX14_dependent 74 = .ok (.aload 4, 2) := dk_25 4 (dk_at dksX14_dependent_3 5 rfl rfl)
theorem dX14_dependent_76 : decode cX14_dependent 76 = .ok (.dup, 1) := dk_89 (dk_at dksX14_dependent_3 7 rfl rfl)
theorem dX14_dependent_77 : decode cX14_dependent 77 = .ok (.getfield 107, 3) := dk_180 0 107 (dk_at dksX14_dependent_3 8 rfl rfl)
theorem dX14_dependent_80 : decode cX14_dependent 80 = .ok (.iconst 1, 1) := dk_4 (dk_at dksX14_dependent_3 11 rfl rfl)
theorem dX14_dependent_81 : decode cX14_dependent 81 = .ok (.iadd, 1) := dk_96 (dk_at dksX14_dependent_3 12 rfl rfl)
theorem dX14_dependent_82 : decode cX14_dependent 82 = .ok (.putfield 107, 3) := dk_181 0 107 (dk_at dksX14_dependent_3 13 rfl rfl)
theorem dX14_dependent_85 : decode cX14_dependent 85 = .ok (.goto 37, 3) := dk_167 0 37 (dk_at dksX14_dependent_3 16 rfl rfl)
theorem dX14_dependent_88 : decode cX14_dependent 88 = .ok (.aload_n 1, 1) := dk_43 (dk_at dksX14_dependent_3 19 rfl rfl)
theorem dX14_dependent_89 : decode cX14_dependent 89 = .ok (.getfield 110, 3) := dk_180 0 110 (dk_at dksX14_dependent_3 20 rfl rfl)
theorem dX14_dependent_92 : decode cX14_dependent 92 = .ok (.aload 5, 2) := dk_25 5 (dk_at dksX14_dependent_4 0 rfl rfl)
theorem dX14_dependent_94 : decode cX14_dependent 94 = .ok (.aload 6, 2) := dk_25 6 (dk_at dksX14_dependent_4 2 rfl rfl)
theorem dX14_dependent_96 : decode cX14_dependent 96 = .ok (.invokeinterface 114 3, 5) := by decide +kernel
theorem dX14_dependent_101 : decode cX14_dependent 101 = .ok (.ifCond .ne 21, 3) := dk_154 0 21 (dk_at dksX14_dependent_4 9 rfl rfl)
theorem dX14_dependent_104 : decode cX14_dependent 104 = .ok (.aload 4, 2) := dk_25 4 (dk_at dksX14_dependent_4 12 rfl rfl)
theorem dX14_dependent_106 : decode cX14_dependent 106 = .ok (.bipush 10, 2) := dk_16 10 (dk_at dksX14_dependent_4 14 rfl rfl)
theorem dX14_dependent_108 : decode cX14_dependent 108 = .ok (.iload_n 3, 1) := dk_29 (dk_at dksX14_dependent_4 16 rfl rfl)
theorem dX14_dependent_109 : decode cX14_dependent 109 = .ok (.imul, 1) := dk_104 (dk_at dksX14_dependent_4 17 rfl rfl)
theorem dX14_dependent_110 : decode cX14_dependent 110 = .ok (.aload_n 1, 1) := dk_43 (dk_at dksX14_dependent_4 18 rfl rfl)
theorem dX14_dependent_111 : decode cX14_dependent 111 = .ok (.getfield 100, 3) := dk_180 0 100 (dk_at dksX14_dependent_4 19 rfl rfl)
theorem dX14_dependent_114 : decode cX14_dependent 114 = .ok (.iadd, 1) := dk_96 (dk_at dksX14_dependent_4 22 rfl rfl)
theorem dX14_dependent_115 : decode cX14_dependent 115 = .ok (.aload_n 1, 1) := dk_43 (dk_at dksX14_dependent_4 23 rfl rfl)
theorem dX14_dependent_116 : decode cX14_dependent 116 = .ok (.getfield 120, 3) := dk_180 0 120 (dk_at dksX14_dependent_5 0 rfl rfl)
theorem dX14_dependent_119 : decode cX14_dependent 119 = .ok (.invokevirtual 41, 3) := dk_182 0 41 (dk_at dksX14_dependent_5 3 rfl rfl)
theorem dX14_dependent_122 : decode cX14_dependent 122 = .ok (.return_, 1) := dk_177 (dk_at dksX14_dependent_5 6 rfl rfl)
theorem q174 : (Jvm.Cond.initialized "GathersAllFaults$Spec") ∈ lw_all := lw_g (lw_at lw_m1 37 rfl) rfl
theorem q227 : (Jvm.Cond.fieldLinkNest "GathersAllFaults$Spec" (51 : Nat) "GathersAllFaults$Sink" "findingMany" "I" "GathersAllFaults") ∈ lw_tbl := lw_at lw_m1 90 rfl
theorem q653 : (Jvm.Cond.selects "GathersAllFaults$Spec" ({ cls := "java/lang/Object", name := "hashCode", desc := "()I" } : Jvm.MethodName) ({ cls := "java/lang/Object", name := "hashCode", desc := "()I" } : Jvm.MethodName)) ∈ lw_all := lw_g (lw_at lw_m3 36 rfl) rfl
theorem q718 : (Jvm.Cond.selects "GathersAllFaults$Spec" ({ cls := "java/lang/Object", name := "equals", desc := "(Ljava/lang/Object;)Z" } : Jvm.MethodName) ({ cls := "java/lang/Object", name := "equals", desc := "(Ljava/lang/Object;)Z" } : Jvm.MethodName)) ∈ lw_all := lw_g (lw_at lw_m3 101 rfl) rfl
theorem q767 : (Jvm.Cond.selects "GathersAllFaults$Spec" ({ cls := "java/lang/Object", name := "getClass", desc := "()Ljava/lang/Class;" } : Jvm.MethodName) ({ cls := "java/lang/Object", name := "getClass", desc := "()Ljava/lang/Class;" } : Jvm.MethodName)) ∈ lw_all := lw_g (lw_at lw_m3 150 rfl) rfl
theorem q1193 : (Jvm.Cond.fieldLinkNest "GathersAllFaults$Spec" (89 : Nat) "GathersAllFaults$Rec" "steps" "[I" "GathersAllFaults") ∈ lw_tbl := lw_at lw_m5 96 rfl
theorem q1311 : (Jvm.Cond.instantiable "GathersAllFaults$Spec" (4 : Nat)) ∈ lw_all := lw_g (lw_at lw_m5 214 rfl) rfl
theorem q1313 : (Jvm.Cond.instanceMethod ({ cls := "GathersAllFaults$Spec", name := "<init>", desc := "()V" } : Jvm.MethodName)) ∈ lw_all := lw_g (lw_at lw_m5 216 rfl) rfl
theorem q1314 : (Jvm.Cond.code ({ cls := "GathersAllFaults$Spec", name := "<init>", desc := "()V" } : Jvm.MethodName) prog_21_method_1_code (1 : Nat) (Option.none : Option Jvm.ClassFile.FieldType)) ∈ lw_all := lw_g (lw_at lw_m5 217 rfl) rfl
theorem q1315 : (Jvm.Cond.methodLink "GathersAllFaults$Spec" (3 : Nat) ({ cls := "java/lang/Object", name := "<init>", desc := "()V" } : Jvm.MethodName)) ∈ lw_all := lw_g (lw_at lw_m5 218 rfl) rfl
theorem q1316 : (Jvm.Cond.classLink "GathersAllFaults$Spec" (9 : Nat) "GathersAllFaults$Field") ∈ lw_all := lw_g (lw_at lw_m5 219 rfl) rfl
theorem q1318 : (Jvm.Cond.classLink "GathersAllFaults$Spec" (17 : Nat) "GathersAllFaults$Hanging") ∈ lw_all := lw_g (lw_at lw_m5 221 rfl) rfl
theorem q1320 : (Jvm.Cond.fieldLink "GathersAllFaults$Spec" (11 : Nat) "GathersAllFaults$Spec" "all" "[LGathersAllFaults$Field;") ∈ lw_all := lw_g (lw_at lw_m5 223 rfl) rfl
theorem q1321 : (Jvm.Cond.fieldLink "GathersAllFaults$Spec" (23 : Nat) "GathersAllFaults$Spec" "fields" "I") ∈ lw_all := lw_g (lw_at lw_m5 224 rfl) rfl
theorem q1322 : (Jvm.Cond.fieldLink "GathersAllFaults$Spec" (19 : Nat) "GathersAllFaults$Spec" "hung" "[LGathersAllFaults$Hanging;") ∈ lw_all := lw_g (lw_at lw_m5 225 rfl) rfl
theorem q1323 : (Jvm.Cond.fieldLink "GathersAllFaults$Spec" (33 : Nat) "GathersAllFaults$Spec" "hanging" "I") ∈ lw_all := lw_g (lw_at lw_m5 226 rfl) rfl
theorem q1324 : (Jvm.Cond.laysFinal "GathersAllFaults$Spec" "GathersAllFaults$Spec" "all" "[LGathersAllFaults$Field;") ∈ lw_all := lw_g (lw_at lw_m5 227 rfl) rfl
theorem q1325 : (Jvm.Cond.soleField "GathersAllFaults$Spec" "all") ∈ lw_all := lw_g (lw_at lw_m5 228 rfl) rfl
theorem q1326 : (Jvm.Cond.lays "GathersAllFaults$Spec" "GathersAllFaults$Spec" "fields" "I") ∈ lw_all := lw_g (lw_at lw_m5 229 rfl) rfl
theorem q1327 : (Jvm.Cond.soleField "GathersAllFaults$Spec" "fields") ∈ lw_all := lw_g (lw_at lw_m5 230 rfl) rfl
theorem q1328 : (Jvm.Cond.laysFinal "GathersAllFaults$Spec" "GathersAllFaults$Spec" "hung" "[LGathersAllFaults$Hanging;") ∈ lw_all := lw_g (lw_at lw_m5 231 rfl) rfl
theorem q1329 : (Jvm.Cond.soleField "GathersAllFaults$Spec" "hung") ∈ lw_all := lw_g (lw_at lw_m5 232 rfl) rfl
theorem q1330 : (Jvm.Cond.lays "GathersAllFaults$Spec" "GathersAllFaults$Spec" "hanging" "I") ∈ lw_all := lw_g (lw_at lw_m5 233 rfl) rfl
theorem q1331 : (Jvm.Cond.soleField "GathersAllFaults$Spec" "hanging") ∈ lw_all := lw_g (lw_at lw_m5 234 rfl) rfl
theorem q1332 : (Jvm.Cond.superclass "GathersAllFaults$Spec" "java/lang/Object") ∈ lw_all := lw_g (lw_at lw_m5 235 rfl) rfl
theorem q1334 : (Jvm.Cond.instanceMethod ({ cls := "GathersAllFaults$Spec", name := "isField", desc := "(I)Z" } : Jvm.MethodName)) ∈ lw_all := lw_g (lw_at lw_m5 237 rfl) rfl
theorem q1335 : (Jvm.Cond.selects "GathersAllFaults$Spec" ({ cls := "GathersAllFaults$Spec", name := "isField", desc := "(I)Z" } : Jvm.MethodName) ({ cls := "GathersAllFaults$Spec", name := "isField", desc := "(I)Z" } : Jvm.MethodName)) ∈ lw_all := lw_g (lw_at lw_m5 238 rfl) rfl
theorem q1336 : (Jvm.Cond.code ({ cls := "GathersAllFaults$Spec", name := "isField", desc := "(I)Z" } : Jvm.MethodName) prog_21_method_2_code (3 : Nat) (Option.some Jvm.ClassFile.FieldType.boolean)) ∈ lw_all := lw_g (lw_at lw_m5 239 rfl) rfl
theorem q1338 : (Jvm.Cond.instanceMethod ({ cls := "GathersAllFaults$Spec", name := "field", desc := "(IZLGathersAllFaults$Look;)V" } : Jvm.MethodName)) ∈ lw_all := lw_g (lw_at lw_m6 1 rfl) rfl
theorem q1339 : (Jvm.Cond.selects "GathersAllFaults$Spec" ({ cls := "GathersAllFaults$Spec", name := "field", desc := "(IZLGathersAllFaults$Look;)V" } : Jvm.MethodName) ({ cls := "GathersAllFaults$Spec", name := "field", desc := "(IZLGathersAllFaults$Look;)V" } : Jvm.MethodName)) ∈ lw_all := lw_g (lw_at lw_m6 2 rfl) rfl
theorem q1340 : (Jvm.Cond.code ({ cls := "GathersAllFaults$Spec", name := "field", desc := "(IZLGathersAllFaults$Look;)V" } : Jvm.MethodName) prog_21_method_3_code (4 : Nat) (Option.none : Option Jvm.ClassFile.FieldType)) ∈ lw_all := lw_g (lw_at lw_m6 3 rfl) rfl
theorem q1342 : (Jvm.Cond.methodLink "GathersAllFaults$Spec" (30 : Nat) ({ cls := "GathersAllFaults$Field", name := "<init>", desc := "(IZLGathersAllFaults$Look;)V" } : Jvm.MethodName)) ∈ lw_all := lw_g (lw_at lw_m6 5 rfl) rfl
theorem q1347 : (Jvm.Cond.fieldLinkNest "GathersAllFaults$Spec" (27 : Nat) "GathersAllFaults$Field" "step" "I" "GathersAllFaults") ∈ lw_tbl := lw_at lw_m6 10 rfl
theorem q1349 : (Jvm.Cond.fieldLinkNest "GathersAllFaults$Spec" (85 : Nat) "GathersAllFaults$Field" "mayLack" "Z" "GathersAllFaults") ∈ lw_tbl := lw_at lw_m6 12 rfl
theorem q1351 : (Jvm.Cond.fieldLinkNest "GathersAllFaults$Spec" (75 : Nat) "GathersAllFaults$Field" "look" "LGathersAllFaults$Look;" "GathersAllFaults") ∈ lw_tbl := lw_at lw_m6 14 rfl
theorem q1368 : (Jvm.Cond.instanceMethod ({ cls := "GathersAllFaults$Spec", name := "hangs", desc := "(LGathersAllFaults$Both;III)V" } : Jvm.MethodName)) ∈ lw_all := lw_g (lw_at lw_m6 31 rfl) rfl
theorem q1369 : (Jvm.Cond.selects "GathersAllFaults$Spec" ({ cls := "GathersAllFaults$Spec", name := "hangs", desc := "(LGathersAllFaults$Both;III)V" } : Jvm.MethodName) ({ cls := "GathersAllFaults$Spec", name := "hangs", desc := "(LGathersAllFaults$Both;III)V" } : Jvm.MethodName)) ∈ lw_all := lw_g (lw_at lw_m6 32 rfl) rfl
theorem q1370 : (Jvm.Cond.code ({ cls := "GathersAllFaults$Spec", name := "hangs", desc := "(LGathersAllFaults$Both;III)V" } : Jvm.MethodName) prog_21_method_4_code (5 : Nat) (Option.none : Option Jvm.ClassFile.FieldType)) ∈ lw_all := lw_g (lw_at lw_m6 33 rfl) rfl
theorem q1372 : (Jvm.Cond.methodLink "GathersAllFaults$Spec" (36 : Nat) ({ cls := "GathersAllFaults$Hanging", name := "<init>", desc := "(LGathersAllFaults$Both;III)V" } : Jvm.MethodName)) ∈ lw_all := lw_g (lw_at lw_m6 35 rfl) rfl
theorem q1377 : (Jvm.Cond.fieldLinkNest "GathersAllFaults$Spec" (110 : Nat) "GathersAllFaults$Hanging" "both" "LGathersAllFaults$Both;" "GathersAllFaults") ∈ lw_tbl := lw_at lw_m6 40 rfl
theorem q1379 : (Jvm.Cond.fieldLinkNest "GathersAllFaults$Spec" (120 : Nat) "GathersAllFaults$Hanging" "code" "I" "GathersAllFaults") ∈ lw_tbl := lw_at lw_m6 42 rfl
theorem q1381 : (Jvm.Cond.fieldLinkNest "GathersAllFaults$Spec" (97 : Nat) "GathersAllFaults$Hanging" "one" "I" "GathersAllFaults") ∈ lw_tbl := lw_at lw_m6 44 rfl
theorem q1383 : (Jvm.Cond.fieldLinkNest "GathersAllFaults$Spec" (100 : Nat) "GathersAllFaults$Hanging" "other" "I" "GathersAllFaults") ∈ lw_tbl := lw_at lw_m6 46 rfl
theorem q1394 : (Jvm.Cond.instanceMethod ({ cls := "GathersAllFaults$Spec", name := "look", desc := "()LGathersAllFaults$Look;" } : Jvm.MethodName)) ∈ lw_all := lw_g (lw_at lw_m6 57 rfl) rfl
theorem q1395 : (Jvm.Cond.selects "GathersAllFaults$Spec" ({ cls := "GathersAllFaults$Spec", name := "look", desc := "()LGathersAllFaults$Look;" } : Jvm.MethodName) ({ cls := "GathersAllFaults$Spec", name := "look", desc := "()LGathersAllFaults$Look;" } : Jvm.MethodName)) ∈ lw_all := lw_g (lw_at lw_m6 58 rfl) rfl
theorem q1396 : (Jvm.Cond.code ({ cls := "GathersAllFaults$Spec", name := "look", desc := "()LGathersAllFaults$Look;" } : Jvm.MethodName) prog_21_method_8_code (1 : Nat) (Option.some (Jvm.ClassFile.FieldType.object "GathersAllFaults$Look"))) ∈ lw_all := lw_g (lw_at lw_m6 59 rfl) rfl
theorem q1397 : (Jvm.Cond.privateMethod ({ cls := "GathersAllFaults$Spec", name := "lookAt", desc := "(LGathersAllFaults$Value;ILGathersAllFaults$Finding;)V" } : Jvm.MethodName)) ∈ lw_tbl := lw_at lw_m6 60 rfl
theorem q1398 : (Jvm.Cond.instanceMethod ({ cls := "GathersAllFaults$Spec", name := "lookAt", desc := "(LGathersAllFaults$Value;ILGathersAllFaults$Finding;)V" } : Jvm.MethodName)) ∈ lw_all := lw_g (lw_at lw_m6 61 rfl) rfl
theorem q1399 : (Jvm.Cond.code ({ cls := "GathersAllFaults$Spec", name := "lookAt", desc := "(LGathersAllFaults$Value;ILGathersAllFaults$Finding;)V" } : Jvm.MethodName) prog_21_method_5_code (8 : Nat) (Option.none : Option Jvm.ClassFile.FieldType)) ∈ lw_all := lw_g (lw_at lw_m6 62 rfl) rfl
theorem q1400 : (Jvm.Cond.classLink "GathersAllFaults$Spec" (39 : Nat) "GathersAllFaults$Rec") ∈ lw_all := lw_g (lw_at lw_m6 63 rfl) rfl
theorem q1401 : (Jvm.Cond.methodLink "GathersAllFaults$Spec" (41 : Nat) ({ cls := "GathersAllFaults$Finding", name := "finds", desc := "(II)V" } : Jvm.MethodName)) ∈ lw_all := lw_g (lw_at lw_m6 64 rfl) rfl
theorem q1402 : (Jvm.Cond.methodLink "GathersAllFaults$Spec" (56 : Nat) ({ cls := "GathersAllFaults$Sink", name := "finding", desc := "()LGathersAllFaults$Finding;" } : Jvm.MethodName)) ∈ lw_all := lw_g (lw_at lw_m6 65 rfl) rfl
theorem q1427 : (Jvm.Cond.fieldLinkNest "GathersAllFaults$Spec" (47 : Nat) "GathersAllFaults$Finding" "sink" "LGathersAllFaults$Sink;" "GathersAllFaults") ∈ lw_tbl := lw_at lw_m6 90 rfl
theorem q1432 : (Jvm.Cond.fieldLinkNest "GathersAllFaults$Spec" (107 : Nat) "GathersAllFaults$Finding" "waiting" "I" "GathersAllFaults") ∈ lw_tbl := lw_at lw_m6 95 rfl
theorem q1449 : (Jvm.Cond.methodLink "GathersAllFaults$Spec" (60 : Nat) ({ cls := "GathersAllFaults$Spec", name := "independent", desc := "(LGathersAllFaults$Rec;ILGathersAllFaults$Finding;)V" } : Jvm.MethodName)) ∈ lw_all := lw_g (lw_at lw_m6 112 rfl) rfl
theorem q1450 : (Jvm.Cond.privateMethod ({ cls := "GathersAllFaults$Spec", name := "independent", desc := "(LGathersAllFaults$Rec;ILGathersAllFaults$Finding;)V" } : Jvm.MethodName)) ∈ lw_tbl := lw_at lw_m6 113 rfl
theorem q1451 : (Jvm.Cond.instanceMethod ({ cls := "GathersAllFaults$Spec", name := "independent", desc := "(LGathersAllFaults$Rec;ILGathersAllFaults$Finding;)V" } : Jvm.MethodName)) ∈ lw_all := lw_g (lw_at lw_m6 114 rfl) rfl
theorem q1452 : (Jvm.Cond.code ({ cls := "GathersAllFaults$Spec", name := "independent", desc := "(LGathersAllFaults$Rec;ILGathersAllFaults$Finding;)V" } : Jvm.MethodName) prog_21_method_6_code (8 : Nat) (Option.none : Option Jvm.ClassFile.FieldType)) ∈ lw_all := lw_g (lw_at lw_m6 115 rfl) rfl
theorem q1453 : (Jvm.Cond.methodLink "GathersAllFaults$Spec" (72 : Nat) ({ cls := "GathersAllFaults$Rec", name := "step", desc := "(I)LGathersAllFaults$Value;" } : Jvm.MethodName)) ∈ lw_all := lw_g (lw_at lw_m6 116 rfl) rfl
theorem q1454 : (Jvm.Cond.interfaceEntry "GathersAllFaults$Spec" (79 : Nat)) ∈ lw_tbl := lw_at lw_m6 117 rfl
theorem q1455 : (Jvm.Cond.methodLink "GathersAllFaults$Spec" (79 : Nat) ({ cls := "GathersAllFaults$Look", name := "at", desc := "(LGathersAllFaults$Value;ILGathersAllFaults$Finding;)V" } : Jvm.MethodName)) ∈ lw_all := lw_g (lw_at lw_m6 118 rfl) rfl
theorem q1456 : (Jvm.Cond.methodLink "GathersAllFaults$Spec" (93 : Nat) ({ cls := "GathersAllFaults$Spec", name := "isField", desc := "(I)Z" } : Jvm.MethodName)) ∈ lw_all := lw_g (lw_at lw_m6 119 rfl) rfl
theorem q1457 : (Jvm.Cond.methodLink "GathersAllFaults$Spec" (64 : Nat) ({ cls := "GathersAllFaults$Spec", name := "dependent", desc := "(LGathersAllFaults$Hanging;LGathersAllFaults$Rec;ILGathersAllFaults$Finding;)V" } : Jvm.MethodName)) ∈ lw_all := lw_g (lw_at lw_m6 120 rfl) rfl
theorem q1458 : (Jvm.Cond.privateMethod ({ cls := "GathersAllFaults$Spec", name := "dependent", desc := "(LGathersAllFaults$Hanging;LGathersAllFaults$Rec;ILGathersAllFaults$Finding;)V" } : Jvm.MethodName)) ∈ lw_tbl := lw_at lw_m6 121 rfl
theorem q1459 : (Jvm.Cond.instanceMethod ({ cls := "GathersAllFaults$Spec", name := "dependent", desc := "(LGathersAllFaults$Hanging;LGathersAllFaults$Rec;ILGathersAllFaults$Finding;)V" } : Jvm.MethodName)) ∈ lw_all := lw_g (lw_at lw_m6 122 rfl) rfl
theorem q1460 : (Jvm.Cond.code ({ cls := "GathersAllFaults$Spec", name := "dependent", desc := "(LGathersAllFaults$Hanging;LGathersAllFaults$Rec;ILGathersAllFaults$Finding;)V" } : Jvm.MethodName) prog_21_method_7_code (8 : Nat) (Option.none : Option Jvm.ClassFile.FieldType)) ∈ lw_all := lw_g (lw_at lw_m6 123 rfl) rfl
theorem q1461 : (Jvm.Cond.methodLink "GathersAllFaults$Spec" (103 : Nat) ({ cls := "GathersAllFaults$Finding", name := "below", desc := "(I)I" } : Jvm.MethodName)) ∈ lw_all := lw_g (lw_at lw_m6 124 rfl) rfl
theorem q1528 : (Jvm.Cond.interfaceEntry "GathersAllFaults$Spec" (114 : Nat)) ∈ lw_tbl := lw_at lw_m6 191 rfl
theorem q1529 : (Jvm.Cond.methodLink "GathersAllFaults$Spec" (114 : Nat) ({ cls := "GathersAllFaults$Both", name := "are", desc := "(LGathersAllFaults$Value;LGathersAllFaults$Value;)Z" } : Jvm.MethodName)) ∈ lw_all := lw_g (lw_at lw_m6 192 rfl) rfl
theorem q1532 : (Jvm.Cond.methodLink "GathersAllFaults$Spec" (68 : Nat) ({ cls := "GathersAllFaults$Finding", name := "and", desc := "(LGathersAllFaults$Finding;)LGathersAllFaults$Finding;" } : Jvm.MethodName)) ∈ lw_all := lw_g (lw_at lw_m6 195 rfl) rfl
theorem q2758 : (Jvm.Cond.castable "GathersAllFaults$Spec" "java/lang/Object") ∈ lw_tbl := lw_at lw_m11 221 rfl
theorem in_X14 : ∀ w ∈ wsX140, w ∈ lw_all := lw_in wsX140 [1324, 1326, 1328, 1330] (by decide +kernel) (by decide +kernel)

/-! GathersAllFaults$Field -/
set_option maxRecDepth 100000
def RX15 : String := "GathersAllFaults$Field"
def TX15 : u_T := fun k => match k with
  | 0 => ("GathersAllFaults$Field", "step", "I", true)
  | 1 => ("GathersAllFaults$Field", "mayLack", "Z", true)
  | _ => ("GathersAllFaults$Field", "look", "LGathersAllFaults$Look;", true)
def tyX15 : Nat → FieldType := fun k => match k with
  | 0 => .int
  | 1 => .boolean
  | _ => .object "GathersAllFaults$Look"
abbrev wsX150 : List Cond := u_ws RX15 TX15 3
theorem nmX15 : ∀ a, a < 3 → ∀ b, b < 3 → a ≠ b → (TX15 a).2.1 ≠ (TX15 b).2.1 := by decide +kernel
theorem tyX15_ok : ∀ k, k < 3 → parseFieldDescriptor (TX15 k).2.2.1 = some (tyX15 k) := by decide +kernel
abbrev cX15_init : ByteArray := prog_5_method_1_code
def yX15_init : MethodName := ⟨RX15, "<init>", "(IZLGathersAllFaults$Look;)V"⟩
def dkwX15_init_0 : List UInt8 := [42, 183, 0, 1, 42, 27, 181, 0, 7, 42, 28, 181, 0, 13, 42, 45, 181, 0, 17, 177]
abbrev dktX15_init_0 : List UInt8 := dkwX15_init_0 ++ []
theorem dksX15_init_0 : cX15_init.data.toList.drop 0 = dktX15_init_0 := by decide +kernel
theorem dX15_init_0 : decode cX15_init 0 = .ok (.aload_n 0, 1) := dk_42 (dk_at dksX15_init_0 0 rfl rfl)
theorem dX15_init_1 : decode cX15_init 1 = .ok (.invokespecial 1, 3) := dk_183 0 1 (dk_at dksX15_init_0 1 rfl rfl)
theorem dX15_init_4 : decode cX15_init 4 = .ok (.aload_n 0, 1) := dk_42 (dk_at dksX15_init_0 4 rfl rfl)
theorem dX15_init_5 : decode cX15_init 5 = .ok (.iload_n 1, 1) := dk_27 (dk_at dksX15_init_0 5 rfl rfl)
theorem dX15_init_6 : decode cX15_init 6 = .ok (.putfield 7, 3) := dk_181 0 7 (dk_at dksX15_init_0 6 rfl rfl)
theorem dX15_init_9 : decode cX15_init 9 = .ok (.aload_n 0, 1) := dk_42 (dk_at dksX15_init_0 9 rfl rfl)
theorem dX15_init_10 : decode cX15_init 10 = .ok (.iload_n 2, 1) := dk_28 (dk_at dksX15_init_0 10 rfl rfl)
theorem dX15_init_11 : decode cX15_init 11 = .ok (.putfield 13, 3) := dk_181 0 13 (dk_at dksX15_init_0 11 rfl rfl)
theorem dX15_init_14 : decode cX15_init 14 = .ok (.aload_n 0, 1) := dk_42 (dk_at dksX15_init_0 14 rfl rfl)
theorem dX15_init_15 : decode cX15_init 15 = .ok (.aload_n 3, 1) := dk_45 (dk_at dksX15_init_0 15 rfl rfl)
theorem dX15_init_16 : decode cX15_init 16 = .ok (.putfield 17, 3) := dk_181 0 17 (dk_at dksX15_init_0 16 rfl rfl)
theorem dX15_init_19 : decode cX15_init 19 = .ok (.return_, 1) := dk_177 (dk_at dksX15_init_0 19 rfl rfl)
theorem q175 : (Jvm.Cond.initialized "GathersAllFaults$Field") ∈ lw_all := lw_g (lw_at lw_m1 38 rfl) rfl
theorem q609 : (Jvm.Cond.selects "GathersAllFaults$Field" ({ cls := "java/lang/Object", name := "hashCode", desc := "()I" } : Jvm.MethodName) ({ cls := "java/lang/Object", name := "hashCode", desc := "()I" } : Jvm.MethodName)) ∈ lw_all := lw_g (lw_at lw_m2 232 rfl) rfl
theorem q671 : (Jvm.Cond.selects "GathersAllFaults$Field" ({ cls := "java/lang/Object", name := "equals", desc := "(Ljava/lang/Object;)Z" } : Jvm.MethodName) ({ cls := "java/lang/Object", name := "equals", desc := "(Ljava/lang/Object;)Z" } : Jvm.MethodName)) ∈ lw_all := lw_g (lw_at lw_m3 54 rfl) rfl
theorem q754 : (Jvm.Cond.selects "GathersAllFaults$Field" ({ cls := "java/lang/Object", name := "getClass", desc := "()Ljava/lang/Class;" } : Jvm.MethodName) ({ cls := "java/lang/Object", name := "getClass", desc := "()Ljava/lang/Class;" } : Jvm.MethodName)) ∈ lw_all := lw_g (lw_at lw_m3 137 rfl) rfl
theorem q1341 : (Jvm.Cond.instantiable "GathersAllFaults$Field" (3 : Nat)) ∈ lw_all := lw_g (lw_at lw_m6 4 rfl) rfl
theorem q1343 : (Jvm.Cond.instanceMethod ({ cls := "GathersAllFaults$Field", name := "<init>", desc := "(IZLGathersAllFaults$Look;)V" } : Jvm.MethodName)) ∈ lw_all := lw_g (lw_at lw_m6 6 rfl) rfl
theorem q1344 : (Jvm.Cond.code ({ cls := "GathersAllFaults$Field", name := "<init>", desc := "(IZLGathersAllFaults$Look;)V" } : Jvm.MethodName) prog_5_method_1_code (4 : Nat) (Option.none : Option Jvm.ClassFile.FieldType)) ∈ lw_all := lw_g (lw_at lw_m6 7 rfl) rfl
theorem q1345 : (Jvm.Cond.methodLink "GathersAllFaults$Field" (1 : Nat) ({ cls := "java/lang/Object", name := "<init>", desc := "()V" } : Jvm.MethodName)) ∈ lw_all := lw_g (lw_at lw_m6 8 rfl) rfl
theorem q1346 : (Jvm.Cond.fieldLink "GathersAllFaults$Field" (7 : Nat) "GathersAllFaults$Field" "step" "I") ∈ lw_all := lw_g (lw_at lw_m6 9 rfl) rfl
theorem q1348 : (Jvm.Cond.fieldLink "GathersAllFaults$Field" (13 : Nat) "GathersAllFaults$Field" "mayLack" "Z") ∈ lw_all := lw_g (lw_at lw_m6 11 rfl) rfl
theorem q1350 : (Jvm.Cond.fieldLink "GathersAllFaults$Field" (17 : Nat) "GathersAllFaults$Field" "look" "LGathersAllFaults$Look;") ∈ lw_all := lw_g (lw_at lw_m6 13 rfl) rfl
theorem q1352 : (Jvm.Cond.laysFinal "GathersAllFaults$Field" "GathersAllFaults$Field" "step" "I") ∈ lw_all := lw_g (lw_at lw_m6 15 rfl) rfl
theorem q1353 : (Jvm.Cond.soleField "GathersAllFaults$Field" "step") ∈ lw_all := lw_g (lw_at lw_m6 16 rfl) rfl
theorem q1354 : (Jvm.Cond.laysFinal "GathersAllFaults$Field" "GathersAllFaults$Field" "mayLack" "Z") ∈ lw_all := lw_g (lw_at lw_m6 17 rfl) rfl
theorem q1355 : (Jvm.Cond.soleField "GathersAllFaults$Field" "mayLack") ∈ lw_all := lw_g (lw_at lw_m6 18 rfl) rfl
theorem q1356 : (Jvm.Cond.laysFinal "GathersAllFaults$Field" "GathersAllFaults$Field" "look" "LGathersAllFaults$Look;") ∈ lw_all := lw_g (lw_at lw_m6 19 rfl) rfl
theorem q1357 : (Jvm.Cond.soleField "GathersAllFaults$Field" "look") ∈ lw_all := lw_g (lw_at lw_m6 20 rfl) rfl
theorem q1358 : (Jvm.Cond.superclass "GathersAllFaults$Field" "java/lang/Object") ∈ lw_all := lw_g (lw_at lw_m6 21 rfl) rfl
theorem q2759 : (Jvm.Cond.castable "GathersAllFaults$Field" "java/lang/Object") ∈ lw_tbl := lw_at lw_m11 222 rfl
theorem in_X15 : ∀ w ∈ wsX150, w ∈ lw_all := lw_in wsX150 [1352, 1354, 1356] (by decide +kernel) (by decide +kernel)

/-! GathersAllFaults$Hanging -/
set_option maxRecDepth 100000
def RX16 : String := "GathersAllFaults$Hanging"
def TX16 : u_T := fun k => match k with
  | 0 => ("GathersAllFaults$Hanging", "both", "LGathersAllFaults$Both;", true)
  | 1 => ("GathersAllFaults$Hanging", "code", "I", true)
  | 2 => ("GathersAllFaults$Hanging", "one", "I", true)
  | _ => ("GathersAllFaults$Hanging", "other", "I", true)
def tyX16 : Nat → FieldType := fun k => match k with
  | 0 => .object "GathersAllFaults$Both"
  | 1 => .int
  | 2 => .int
  | _ => .int
abbrev wsX160 : List Cond := u_ws RX16 TX16 4
theorem nmX16 : ∀ a, a < 4 → ∀ b, b < 4 → a ≠ b → (TX16 a).2.1 ≠ (TX16 b).2.1 := by decide +kernel
theorem tyX16_ok : ∀ k, k < 4 → parseFieldDescriptor (TX16 k).2.2.1 = some (tyX16 k) := by decide +kernel
abbrev cX16_init : ByteArray := prog_8_method_1_code
def yX16_init : MethodName := ⟨RX16, "<init>", "(LGathersAllFaults$Both;III)V"⟩
def dkwX16_init_1 : List UInt8 := [181, 0, 20, 177]
abbrev dktX16_init_1 : List UInt8 := dkwX16_init_1 ++ []
def dkwX16_init_0 : List UInt8 := [42, 183, 0, 1, 42, 43, 181, 0, 7, 42, 28, 181, 0, 13, 42, 29, 181, 0, 17, 42, 21, 4]
abbrev dktX16_init_0 : List UInt8 := dkwX16_init_0 ++ dktX16_init_1
theorem dksX16_init_0 : cX16_init.data.toList.drop 0 = dktX16_init_0 := by decide +kernel
theorem dksX16_init_1 : cX16_init.data.toList.drop 22 = dktX16_init_1 := dk_seg dksX16_init_0 22 rfl rfl
theorem dX16_init_0 : decode cX16_init 0 = .ok (.aload_n 0, 1) := dk_42 (dk_at dksX16_init_0 0 rfl rfl)
theorem dX16_init_1 : decode cX16_init 1 = .ok (.invokespecial 1, 3) := dk_183 0 1 (dk_at dksX16_init_0 1 rfl rfl)
theorem dX16_init_4 : decode cX16_init 4 = .ok (.aload_n 0, 1) := dk_42 (dk_at dksX16_init_0 4 rfl rfl)
theorem dX16_init_5 : decode cX16_init 5 = .ok (.aload_n 1, 1) := dk_43 (dk_at dksX16_init_0 5 rfl rfl)
theorem dX16_init_6 : decode cX16_init 6 = .ok (.putfield 7, 3) := dk_181 0 7 (dk_at dksX16_init_0 6 rfl rfl)
theorem dX16_init_9 : decode cX16_init 9 = .ok (.aload_n 0, 1) := dk_42 (dk_at dksX16_init_0 9 rfl rfl)
theorem dX16_init_10 : decode cX16_init 10 = .ok (.iload_n 2, 1) := dk_28 (dk_at dksX16_init_0 10 rfl rfl)
theorem dX16_init_11 : decode cX16_init 11 = .ok (.putfield 13, 3) := dk_181 0 13 (dk_at dksX16_init_0 11 rfl rfl)
theorem dX16_init_14 : decode cX16_init 14 = .ok (.aload_n 0, 1) := dk_42 (dk_at dksX16_init_0 14 rfl rfl)
theorem dX16_init_15 : decode cX16_init 15 = .ok (.iload_n 3, 1) := dk_29 (dk_at dksX16_init_0 15 rfl rfl)
theorem dX16_init_16 : decode cX16_init 16 = .ok (.putfield 17, 3) := dk_181 0 17 (dk_at dksX16_init_0 16 rfl rfl)
theorem dX16_init_19 : decode cX16_init 19 = .ok (.aload_n 0, 1) := dk_42 (dk_at dksX16_init_0 19 rfl rfl)
theorem dX16_init_20 : decode cX16_init 20 = .ok (.iload 4, 2) := dk_21 4 (dk_at dksX16_init_0 20 rfl rfl)
theorem dX16_init_22 : decode cX16_init 22 = .ok (.putfield 20, 3) := dk_181 0 20 (dk_at dksX16_init_1 0 rfl rfl)
theorem dX16_init_25 : decode cX16_init 25 = .ok (.return_, 1) := dk_177 (dk_at dksX16_init_1 3 rfl rfl)
theorem q176 : (Jvm.Cond.initialized "GathersAllFaults$Hanging") ∈ lw_all := lw_g (lw_at lw_m1 39 rfl) rfl
theorem q612 : (Jvm.Cond.selects "GathersAllFaults$Hanging" ({ cls := "java/lang/Object", name := "hashCode", desc := "()I" } : Jvm.MethodName) ({ cls := "java/lang/Object", name := "hashCode", desc := "()I" } : Jvm.MethodName)) ∈ lw_all := lw_g (lw_at lw_m2 235 rfl) rfl
theorem q674 : (Jvm.Cond.selects "GathersAllFaults$Hanging" ({ cls := "java/lang/Object", name := "equals", desc := "(Ljava/lang/Object;)Z" } : Jvm.MethodName) ({ cls := "java/lang/Object", name := "equals", desc := "(Ljava/lang/Object;)Z" } : Jvm.MethodName)) ∈ lw_all := lw_g (lw_at lw_m3 57 rfl) rfl
theorem q757 : (Jvm.Cond.selects "GathersAllFaults$Hanging" ({ cls := "java/lang/Object", name := "getClass", desc := "()Ljava/lang/Class;" } : Jvm.MethodName) ({ cls := "java/lang/Object", name := "getClass", desc := "()Ljava/lang/Class;" } : Jvm.MethodName)) ∈ lw_all := lw_g (lw_at lw_m3 140 rfl) rfl
theorem q1371 : (Jvm.Cond.instantiable "GathersAllFaults$Hanging" (4 : Nat)) ∈ lw_all := lw_g (lw_at lw_m6 34 rfl) rfl
theorem q1373 : (Jvm.Cond.instanceMethod ({ cls := "GathersAllFaults$Hanging", name := "<init>", desc := "(LGathersAllFaults$Both;III)V" } : Jvm.MethodName)) ∈ lw_all := lw_g (lw_at lw_m6 36 rfl) rfl
theorem q1374 : (Jvm.Cond.code ({ cls := "GathersAllFaults$Hanging", name := "<init>", desc := "(LGathersAllFaults$Both;III)V" } : Jvm.MethodName) prog_8_method_1_code (5 : Nat) (Option.none : Option Jvm.ClassFile.FieldType)) ∈ lw_all := lw_g (lw_at lw_m6 37 rfl) rfl
theorem q1375 : (Jvm.Cond.methodLink "GathersAllFaults$Hanging" (1 : Nat) ({ cls := "java/lang/Object", name := "<init>", desc := "()V" } : Jvm.MethodName)) ∈ lw_all := lw_g (lw_at lw_m6 38 rfl) rfl
theorem q1376 : (Jvm.Cond.fieldLink "GathersAllFaults$Hanging" (7 : Nat) "GathersAllFaults$Hanging" "both" "LGathersAllFaults$Both;") ∈ lw_all := lw_g (lw_at lw_m6 39 rfl) rfl
theorem q1378 : (Jvm.Cond.fieldLink "GathersAllFaults$Hanging" (13 : Nat) "GathersAllFaults$Hanging" "code" "I") ∈ lw_all := lw_g (lw_at lw_m6 41 rfl) rfl
theorem q1380 : (Jvm.Cond.fieldLink "GathersAllFaults$Hanging" (17 : Nat) "GathersAllFaults$Hanging" "one" "I") ∈ lw_all := lw_g (lw_at lw_m6 43 rfl) rfl
theorem q1382 : (Jvm.Cond.fieldLink "GathersAllFaults$Hanging" (20 : Nat) "GathersAllFaults$Hanging" "other" "I") ∈ lw_all := lw_g (lw_at lw_m6 45 rfl) rfl
theorem q1384 : (Jvm.Cond.laysFinal "GathersAllFaults$Hanging" "GathersAllFaults$Hanging" "both" "LGathersAllFaults$Both;") ∈ lw_all := lw_g (lw_at lw_m6 47 rfl) rfl
theorem q1385 : (Jvm.Cond.soleField "GathersAllFaults$Hanging" "both") ∈ lw_all := lw_g (lw_at lw_m6 48 rfl) rfl
theorem q1386 : (Jvm.Cond.laysFinal "GathersAllFaults$Hanging" "GathersAllFaults$Hanging" "code" "I") ∈ lw_all := lw_g (lw_at lw_m6 49 rfl) rfl
theorem q1387 : (Jvm.Cond.soleField "GathersAllFaults$Hanging" "code") ∈ lw_all := lw_g (lw_at lw_m6 50 rfl) rfl
theorem q1388 : (Jvm.Cond.laysFinal "GathersAllFaults$Hanging" "GathersAllFaults$Hanging" "one" "I") ∈ lw_all := lw_g (lw_at lw_m6 51 rfl) rfl
theorem q1389 : (Jvm.Cond.soleField "GathersAllFaults$Hanging" "one") ∈ lw_all := lw_g (lw_at lw_m6 52 rfl) rfl
theorem q1390 : (Jvm.Cond.laysFinal "GathersAllFaults$Hanging" "GathersAllFaults$Hanging" "other" "I") ∈ lw_all := lw_g (lw_at lw_m6 53 rfl) rfl
theorem q1391 : (Jvm.Cond.soleField "GathersAllFaults$Hanging" "other") ∈ lw_all := lw_g (lw_at lw_m6 54 rfl) rfl
theorem q1392 : (Jvm.Cond.superclass "GathersAllFaults$Hanging" "java/lang/Object") ∈ lw_all := lw_g (lw_at lw_m6 55 rfl) rfl
theorem q2760 : (Jvm.Cond.castable "GathersAllFaults$Hanging" "java/lang/Object") ∈ lw_tbl := lw_at lw_m11 223 rfl
theorem in_X16 : ∀ w ∈ wsX160, w ∈ lw_all := lw_in wsX160 [1384, 1386, 1388, 1390] (by decide +kernel) (by decide +kernel)

/-! GathersAllFaults$Finding -/
set_option maxRecDepth 100000
def RX17 : String := "GathersAllFaults$Finding"
def TX17 : u_T := fun k => match k with
  | 0 => ("GathersAllFaults$Finding", "sink", "LGathersAllFaults$Sink;", true)
  | 1 => ("GathersAllFaults$Finding", "row", "LGathersAllFaults$Row;", true)
  | _ => ("GathersAllFaults$Finding", "waiting", "I", false)
def tyX17 : Nat → FieldType := fun k => match k with
  | 0 => .object "GathersAllFaults$Sink"
  | 1 => .object "GathersAllFaults$Row"
  | _ => .int
abbrev wsX170 : List Cond := u_ws RX17 TX17 3
theorem nmX17 : ∀ a, a < 3 → ∀ b, b < 3 → a ≠ b → (TX17 a).2.1 ≠ (TX17 b).2.1 := by decide +kernel
theorem tyX17_ok : ∀ k, k < 3 → parseFieldDescriptor (TX17 k).2.2.1 = some (tyX17 k) := by decide +kernel
abbrev cX17_finds : ByteArray := prog_6_method_3_code
def yX17_finds : MethodName := ⟨RX17, "finds", "(II)V"⟩
def dkwX17_finds_0 : List UInt8 := [42, 180, 0, 10, 42, 180, 0, 16, 27, 28, 182, 0, 27, 182, 0, 33, 177]
abbrev dktX17_finds_0 : List UInt8 := dkwX17_finds_0 ++ []
theorem dksX17_finds_0 : cX17_finds.data.toList.drop 0 = dktX17_finds_0 := by decide +kernel
theorem dX17_finds_0 : decode cX17_finds 0 = .ok (.aload_n 0, 1) := dk_42 (dk_at dksX17_finds_0 0 rfl rfl)
theorem dX17_finds_1 : decode cX17_finds 1 = .ok (.getfield 10, 3) := dk_180 0 10 (dk_at dksX17_finds_0 1 rfl rfl)
theorem dX17_finds_4 : decode cX17_finds 4 = .ok (.aload_n 0, 1) := dk_42 (dk_at dksX17_finds_0 4 rfl rfl)
theorem dX17_finds_5 : decode cX17_finds 5 = .ok (.getfield 16, 3) := dk_180 0 16 (dk_at dksX17_finds_0 5 rfl rfl)
theorem dX17_finds_8 : decode cX17_finds 8 = .ok (.iload_n 1, 1) := dk_27 (dk_at dksX17_finds_0 8 rfl rfl)
theorem dX17_finds_9 : decode cX17_finds 9 = .ok (.iload_n 2, 1) := dk_28 (dk_at dksX17_finds_0 9 rfl rfl)
theorem dX17_finds_10 : decode cX17_finds 10 = .ok (.invokevirtual 27, 3) := dk_182 0 27 (dk_at dksX17_finds_0 10 rfl rfl)
theorem dX17_finds_13 : decode cX17_finds 13 = .ok (.invokevirtual 33, 3) := dk_182 0 33 (dk_at dksX17_finds_0 13 rfl rfl)
theorem dX17_finds_16 : decode cX17_finds 16 = .ok (.return_, 1) := dk_177 (dk_at dksX17_finds_0 16 rfl rfl)
abbrev cX17_init : ByteArray := prog_6_method_1_code
def yX17_init : MethodName := ⟨RX17, "<init>", "(LGathersAllFaults$Sink;)V"⟩
def dkwX17_init_0 : List UInt8 := [42, 183, 0, 1, 42, 187, 0, 7, 89, 183, 0, 9, 181, 0, 10, 42, 43, 181, 0, 16, 177]
abbrev dktX17_init_0 : List UInt8 := dkwX17_init_0 ++ []
theorem dksX17_init_0 : cX17_init.data.toList.drop 0 = dktX17_init_0 := by decide +kernel
theorem dX17_init_0 : decode cX17_init 0 = .ok (.aload_n 0, 1) := dk_42 (dk_at dksX17_init_0 0 rfl rfl)
theorem dX17_init_1 : decode cX17_init 1 = .ok (.invokespecial 1, 3) := dk_183 0 1 (dk_at dksX17_init_0 1 rfl rfl)
theorem dX17_init_4 : decode cX17_init 4 = .ok (.aload_n 0, 1) := dk_42 (dk_at dksX17_init_0 4 rfl rfl)
theorem dX17_init_5 : decode cX17_init 5 = .ok (.new 7, 3) := dk_187 0 7 (dk_at dksX17_init_0 5 rfl rfl)
theorem dX17_init_8 : decode cX17_init 8 = .ok (.dup, 1) := dk_89 (dk_at dksX17_init_0 8 rfl rfl)
theorem dX17_init_9 : decode cX17_init 9 = .ok (.invokespecial 9, 3) := dk_183 0 9 (dk_at dksX17_init_0 9 rfl rfl)
theorem dX17_init_12 : decode cX17_init 12 = .ok (.putfield 10, 3) := dk_181 0 10 (dk_at dksX17_init_0 12 rfl rfl)
theorem dX17_init_15 : decode cX17_init 15 = .ok (.aload_n 0, 1) := dk_42 (dk_at dksX17_init_0 15 rfl rfl)
theorem dX17_init_16 : decode cX17_init 16 = .ok (.aload_n 1, 1) := dk_43 (dk_at dksX17_init_0 16 rfl rfl)
theorem dX17_init_17 : decode cX17_init 17 = .ok (.putfield 16, 3) := dk_181 0 16 (dk_at dksX17_init_0 17 rfl rfl)
theorem dX17_init_20 : decode cX17_init 20 = .ok (.return_, 1) := dk_177 (dk_at dksX17_init_0 20 rfl rfl)
abbrev cX17_emptied : ByteArray := prog_6_method_2_code
def yX17_emptied : MethodName := ⟨RX17, "emptied", "()LGathersAllFaults$Finding;"⟩
def dkwX17_emptied_0 : List UInt8 := [42, 180, 0, 10, 182, 0, 20, 42, 3, 181, 0, 23, 42, 176]
abbrev dktX17_emptied_0 : List UInt8 := dkwX17_emptied_0 ++ []
theorem dksX17_emptied_0 : cX17_emptied.data.toList.drop 0 = dktX17_emptied_0 := by decide +kernel
theorem dX17_emptied_0 : decode cX17_emptied 0 = .ok (.aload_n 0, 1) := dk_42 (dk_at dksX17_emptied_0 0 rfl rfl)
theorem dX17_emptied_1 : decode cX17_emptied 1 = .ok (.getfield 10, 3) := dk_180 0 10 (dk_at dksX17_emptied_0 1 rfl rfl)
theorem dX17_emptied_4 : decode cX17_emptied 4 = .ok (.invokevirtual 20, 3) := dk_182 0 20 (dk_at dksX17_emptied_0 4 rfl rfl)
theorem dX17_emptied_7 : decode cX17_emptied 7 = .ok (.aload_n 0, 1) := dk_42 (dk_at dksX17_emptied_0 7 rfl rfl)
theorem dX17_emptied_8 : decode cX17_emptied 8 = .ok (.iconst 0, 1) := dk_3 (dk_at dksX17_emptied_0 8 rfl rfl)
theorem dX17_emptied_9 : decode cX17_emptied 9 = .ok (.putfield 23, 3) := dk_181 0 23 (dk_at dksX17_emptied_0 9 rfl rfl)
theorem dX17_emptied_12 : decode cX17_emptied 12 = .ok (.aload_n 0, 1) := dk_42 (dk_at dksX17_emptied_0 12 rfl rfl)
theorem dX17_emptied_13 : decode cX17_emptied 13 = .ok (.areturn, 1) := dk_176 (dk_at dksX17_emptied_0 13 rfl rfl)
abbrev cX17_below : ByteArray := prog_6_method_5_code
def yX17_below : MethodName := ⟨RX17, "below", "(I)I"⟩
def dkwX17_below_0 : List UInt8 := [42, 180, 0, 10, 27, 182, 0, 40, 172]
abbrev dktX17_below_0 : List UInt8 := dkwX17_below_0 ++ []
theorem dksX17_below_0 : cX17_below.data.toList.drop 0 = dktX17_below_0 := by decide +kernel
theorem dX17_below_0 : decode cX17_below 0 = .ok (.aload_n 0, 1) := dk_42 (dk_at dksX17_below_0 0 rfl rfl)
theorem dX17_below_1 : decode cX17_below 1 = .ok (.getfield 10, 3) := dk_180 0 10 (dk_at dksX17_below_0 1 rfl rfl)
theorem dX17_below_4 : decode cX17_below 4 = .ok (.iload_n 1, 1) := dk_27 (dk_at dksX17_below_0 4 rfl rfl)
theorem dX17_below_5 : decode cX17_below 5 = .ok (.invokevirtual 40, 3) := dk_182 0 40 (dk_at dksX17_below_0 5 rfl rfl)
theorem dX17_below_8 : decode cX17_below 8 = .ok (.ireturn, 1) := dk_172 (dk_at dksX17_below_0 8 rfl rfl)
abbrev cX17_and : ByteArray := prog_6_method_6_code
def yX17_and : MethodName := ⟨RX17, "and", "(LGathersAllFaults$Finding;)LGathersAllFaults$Finding;"⟩
def dkwX17_and_1 : List UInt8 := [42, 176]
abbrev dktX17_and_1 : List UInt8 := dkwX17_and_1 ++ []
def dkwX17_and_0 : List UInt8 := [42, 180, 0, 10, 43, 180, 0, 10, 182, 0, 44, 42, 89, 180, 0, 23, 43, 180, 0, 23, 96, 181, 0, 23]
abbrev dktX17_and_0 : List UInt8 := dkwX17_and_0 ++ dktX17_and_1
theorem dksX17_and_0 : cX17_and.data.toList.drop 0 = dktX17_and_0 := by decide +kernel
theorem dksX17_and_1 : cX17_and.data.toList.drop 24 = dktX17_and_1 := dk_seg dksX17_and_0 24 rfl rfl
theorem dX17_and_0 : decode cX17_and 0 = .ok (.aload_n 0, 1) := dk_42 (dk_at dksX17_and_0 0 rfl rfl)
theorem dX17_and_1 : decode cX17_and 1 = .ok (.getfield 10, 3) := dk_180 0 10 (dk_at dksX17_and_0 1 rfl rfl)
theorem dX17_and_4 : decode cX17_and 4 = .ok (.aload_n 1, 1) := dk_43 (dk_at dksX17_and_0 4 rfl rfl)
theorem dX17_and_5 : decode cX17_and 5 = .ok (.getfield 10, 3) := dk_180 0 10 (dk_at dksX17_and_0 5 rfl rfl)
theorem dX17_and_8 : decode cX17_and 8 = .ok (.invokevirtual 44, 3) := dk_182 0 44 (dk_at dksX17_and_0 8 rfl rfl)
theorem dX17_and_11 : decode cX17_and 11 = .ok (.aload_n 0, 1) := dk_42 (dk_at dksX17_and_0 11 rfl rfl)
theorem dX17_and_12 : decode cX17_and 12 = .ok (.dup, 1) := dk_89 (dk_at dksX17_and_0 12 rfl rfl)
theorem dX17_and_13 : decode cX17_and 13 = .ok (.getfield 23, 3) := dk_180 0 23 (dk_at dksX17_and_0 13 rfl rfl)
theorem dX17_and_16 : decode cX17_and 16 = .ok (.aload_n 1, 1) := dk_43 (dk_at dksX17_and_0 16 rfl rfl)
theorem dX17_and_17 : decode cX17_and 17 = .ok (.getfield 23, 3) := dk_180 0 23 (dk_at dksX17_and_0 17 rfl rfl)
theorem dX17_and_20 : decode cX17_and 20 = .ok (.iadd, 1) := dk_96 (dk_at dksX17_and_0 20 rfl rfl)
theorem dX17_and_21 : decode cX17_and 21 = .ok (.putfield 23, 3) := dk_181 0 23 (dk_at dksX17_and_0 21 rfl rfl)
theorem dX17_and_24 : decode cX17_and 24 = .ok (.aload_n 0, 1) := dk_42 (dk_at dksX17_and_1 0 rfl rfl)
theorem dX17_and_25 : decode cX17_and 25 = .ok (.areturn, 1) := dk_176 (dk_at dksX17_and_1 1 rfl rfl)
abbrev cX17_isNone : ByteArray := prog_6_method_4_code
def yX17_isNone : MethodName := ⟨RX17, "isNone", "()Z"⟩
def dkwX17_isNone_0 : List UInt8 := [42, 180, 0, 10, 180, 0, 37, 154, 0, 7, 4, 167, 0, 4, 3, 172]
abbrev dktX17_isNone_0 : List UInt8 := dkwX17_isNone_0 ++ []
theorem dksX17_isNone_0 : cX17_isNone.data.toList.drop 0 = dktX17_isNone_0 := by decide +kernel
theorem dX17_isNone_0 : decode cX17_isNone 0 = .ok (.aload_n 0, 1) := dk_42 (dk_at dksX17_isNone_0 0 rfl rfl)
theorem dX17_isNone_1 : decode cX17_isNone 1 = .ok (.getfield 10, 3) := dk_180 0 10 (dk_at dksX17_isNone_0 1 rfl rfl)
theorem dX17_isNone_4 : decode cX17_isNone 4 = .ok (.getfield 37, 3) := dk_180 0 37 (dk_at dksX17_isNone_0 4 rfl rfl)
theorem dX17_isNone_7 : decode cX17_isNone 7 = .ok (.ifCond .ne 7, 3) := dk_154 0 7 (dk_at dksX17_isNone_0 7 rfl rfl)
theorem dX17_isNone_10 : decode cX17_isNone 10 = .ok (.iconst 1, 1) := dk_4 (dk_at dksX17_isNone_0 10 rfl rfl)
theorem dX17_isNone_11 : decode cX17_isNone 11 = .ok (.goto 4, 3) := dk_167 0 4 (dk_at dksX17_isNone_0 11 rfl rfl)
theorem dX17_isNone_14 : decode cX17_isNone 14 = .ok (.iconst 0, 1) := dk_3 (dk_at dksX17_isNone_0 14 rfl rfl)
theorem dX17_isNone_15 : decode cX17_isNone 15 = .ok (.ireturn, 1) := dk_172 (dk_at dksX17_isNone_0 15 rfl rfl)
theorem q177 : (Jvm.Cond.initialized "GathersAllFaults$Finding") ∈ lw_all := lw_g (lw_at lw_m1 40 rfl) rfl
theorem q610 : (Jvm.Cond.selects "GathersAllFaults$Finding" ({ cls := "java/lang/Object", name := "hashCode", desc := "()I" } : Jvm.MethodName) ({ cls := "java/lang/Object", name := "hashCode", desc := "()I" } : Jvm.MethodName)) ∈ lw_all := lw_g (lw_at lw_m2 233 rfl) rfl
theorem q672 : (Jvm.Cond.selects "GathersAllFaults$Finding" ({ cls := "java/lang/Object", name := "equals", desc := "(Ljava/lang/Object;)Z" } : Jvm.MethodName) ({ cls := "java/lang/Object", name := "equals", desc := "(Ljava/lang/Object;)Z" } : Jvm.MethodName)) ∈ lw_all := lw_g (lw_at lw_m3 55 rfl) rfl
theorem q755 : (Jvm.Cond.selects "GathersAllFaults$Finding" ({ cls := "java/lang/Object", name := "getClass", desc := "()Ljava/lang/Class;" } : Jvm.MethodName) ({ cls := "java/lang/Object", name := "getClass", desc := "()Ljava/lang/Class;" } : Jvm.MethodName)) ∈ lw_all := lw_g (lw_at lw_m3 138 rfl) rfl
theorem q1262 : (Jvm.Cond.instanceMethod ({ cls := "GathersAllFaults$Finding", name := "finds", desc := "(II)V" } : Jvm.MethodName)) ∈ lw_all := lw_g (lw_at lw_m5 165 rfl) rfl
theorem q1263 : (Jvm.Cond.selects "GathersAllFaults$Finding" ({ cls := "GathersAllFaults$Finding", name := "finds", desc := "(II)V" } : Jvm.MethodName) ({ cls := "GathersAllFaults$Finding", name := "finds", desc := "(II)V" } : Jvm.MethodName)) ∈ lw_all := lw_g (lw_at lw_m5 166 rfl) rfl
theorem q1264 : (Jvm.Cond.code ({ cls := "GathersAllFaults$Finding", name := "finds", desc := "(II)V" } : Jvm.MethodName) prog_6_method_3_code (3 : Nat) (Option.none : Option Jvm.ClassFile.FieldType)) ∈ lw_all := lw_g (lw_at lw_m5 167 rfl) rfl
theorem q1265 : (Jvm.Cond.methodLink "GathersAllFaults$Finding" (27 : Nat) ({ cls := "GathersAllFaults$Sink", name := "found", desc := "(II)LGathersAllFaults$Found;" } : Jvm.MethodName)) ∈ lw_all := lw_g (lw_at lw_m5 168 rfl) rfl
theorem q1288 : (Jvm.Cond.methodLink "GathersAllFaults$Finding" (33 : Nat) ({ cls := "GathersAllFaults$Row", name := "add", desc := "(LGathersAllFaults$Placed;)V" } : Jvm.MethodName)) ∈ lw_all := lw_g (lw_at lw_m5 191 rfl) rfl
theorem q1406 : (Jvm.Cond.instantiable "GathersAllFaults$Finding" (3 : Nat)) ∈ lw_all := lw_g (lw_at lw_m6 69 rfl) rfl
theorem q1408 : (Jvm.Cond.instanceMethod ({ cls := "GathersAllFaults$Finding", name := "<init>", desc := "(LGathersAllFaults$Sink;)V" } : Jvm.MethodName)) ∈ lw_all := lw_g (lw_at lw_m6 71 rfl) rfl
theorem q1409 : (Jvm.Cond.code ({ cls := "GathersAllFaults$Finding", name := "<init>", desc := "(LGathersAllFaults$Sink;)V" } : Jvm.MethodName) prog_6_method_1_code (2 : Nat) (Option.none : Option Jvm.ClassFile.FieldType)) ∈ lw_all := lw_g (lw_at lw_m6 72 rfl) rfl
theorem q1410 : (Jvm.Cond.methodLink "GathersAllFaults$Finding" (1 : Nat) ({ cls := "java/lang/Object", name := "<init>", desc := "()V" } : Jvm.MethodName)) ∈ lw_all := lw_g (lw_at lw_m6 73 rfl) rfl
theorem q1411 : (Jvm.Cond.classLink "GathersAllFaults$Finding" (7 : Nat) "GathersAllFaults$Row") ∈ lw_all := lw_g (lw_at lw_m6 74 rfl) rfl
theorem q1413 : (Jvm.Cond.methodLinkNest "GathersAllFaults$Finding" (9 : Nat) ({ cls := "GathersAllFaults$Row", name := "<init>", desc := "()V" } : Jvm.MethodName) "GathersAllFaults") ∈ lw_tbl := lw_at lw_m6 76 rfl
theorem q1419 : (Jvm.Cond.fieldLinkNest "GathersAllFaults$Finding" (37 : Nat) "GathersAllFaults$Row" "many" "I" "GathersAllFaults") ∈ lw_tbl := lw_at lw_m6 82 rfl
theorem q1426 : (Jvm.Cond.fieldLink "GathersAllFaults$Finding" (16 : Nat) "GathersAllFaults$Finding" "sink" "LGathersAllFaults$Sink;") ∈ lw_all := lw_g (lw_at lw_m6 89 rfl) rfl
theorem q1429 : (Jvm.Cond.fieldLink "GathersAllFaults$Finding" (10 : Nat) "GathersAllFaults$Finding" "row" "LGathersAllFaults$Row;") ∈ lw_all := lw_g (lw_at lw_m6 92 rfl) rfl
theorem q1431 : (Jvm.Cond.fieldLink "GathersAllFaults$Finding" (23 : Nat) "GathersAllFaults$Finding" "waiting" "I") ∈ lw_all := lw_g (lw_at lw_m6 94 rfl) rfl
theorem q1434 : (Jvm.Cond.laysFinal "GathersAllFaults$Finding" "GathersAllFaults$Finding" "sink" "LGathersAllFaults$Sink;") ∈ lw_all := lw_g (lw_at lw_m6 97 rfl) rfl
theorem q1435 : (Jvm.Cond.soleField "GathersAllFaults$Finding" "sink") ∈ lw_all := lw_g (lw_at lw_m6 98 rfl) rfl
theorem q1436 : (Jvm.Cond.laysFinal "GathersAllFaults$Finding" "GathersAllFaults$Finding" "row" "LGathersAllFaults$Row;") ∈ lw_all := lw_g (lw_at lw_m6 99 rfl) rfl
theorem q1437 : (Jvm.Cond.soleField "GathersAllFaults$Finding" "row") ∈ lw_all := lw_g (lw_at lw_m6 100 rfl) rfl
theorem q1438 : (Jvm.Cond.lays "GathersAllFaults$Finding" "GathersAllFaults$Finding" "waiting" "I") ∈ lw_all := lw_g (lw_at lw_m6 101 rfl) rfl
theorem q1439 : (Jvm.Cond.soleField "GathersAllFaults$Finding" "waiting") ∈ lw_all := lw_g (lw_at lw_m6 102 rfl) rfl
theorem q1440 : (Jvm.Cond.superclass "GathersAllFaults$Finding" "java/lang/Object") ∈ lw_all := lw_g (lw_at lw_m6 103 rfl) rfl
theorem q1442 : (Jvm.Cond.instanceMethod ({ cls := "GathersAllFaults$Finding", name := "emptied", desc := "()LGathersAllFaults$Finding;" } : Jvm.MethodName)) ∈ lw_all := lw_g (lw_at lw_m6 105 rfl) rfl
theorem q1443 : (Jvm.Cond.selects "GathersAllFaults$Finding" ({ cls := "GathersAllFaults$Finding", name := "emptied", desc := "()LGathersAllFaults$Finding;" } : Jvm.MethodName) ({ cls := "GathersAllFaults$Finding", name := "emptied", desc := "()LGathersAllFaults$Finding;" } : Jvm.MethodName)) ∈ lw_all := lw_g (lw_at lw_m6 106 rfl) rfl
theorem q1444 : (Jvm.Cond.code ({ cls := "GathersAllFaults$Finding", name := "emptied", desc := "()LGathersAllFaults$Finding;" } : Jvm.MethodName) prog_6_method_2_code (1 : Nat) (Option.some (Jvm.ClassFile.FieldType.object "GathersAllFaults$Finding"))) ∈ lw_all := lw_g (lw_at lw_m6 107 rfl) rfl
theorem q1445 : (Jvm.Cond.methodLink "GathersAllFaults$Finding" (20 : Nat) ({ cls := "GathersAllFaults$Row", name := "empties", desc := "()V" } : Jvm.MethodName)) ∈ lw_all := lw_g (lw_at lw_m6 108 rfl) rfl
theorem q1462 : (Jvm.Cond.instanceMethod ({ cls := "GathersAllFaults$Finding", name := "below", desc := "(I)I" } : Jvm.MethodName)) ∈ lw_all := lw_g (lw_at lw_m6 125 rfl) rfl
theorem q1463 : (Jvm.Cond.selects "GathersAllFaults$Finding" ({ cls := "GathersAllFaults$Finding", name := "below", desc := "(I)I" } : Jvm.MethodName) ({ cls := "GathersAllFaults$Finding", name := "below", desc := "(I)I" } : Jvm.MethodName)) ∈ lw_all := lw_g (lw_at lw_m6 126 rfl) rfl
theorem q1464 : (Jvm.Cond.code ({ cls := "GathersAllFaults$Finding", name := "below", desc := "(I)I" } : Jvm.MethodName) prog_6_method_5_code (2 : Nat) (Option.some Jvm.ClassFile.FieldType.int)) ∈ lw_all := lw_g (lw_at lw_m6 127 rfl) rfl
theorem q1465 : (Jvm.Cond.methodLink "GathersAllFaults$Finding" (40 : Nat) ({ cls := "GathersAllFaults$Row", name := "below", desc := "(I)I" } : Jvm.MethodName)) ∈ lw_all := lw_g (lw_at lw_m6 128 rfl) rfl
theorem q1533 : (Jvm.Cond.instanceMethod ({ cls := "GathersAllFaults$Finding", name := "and", desc := "(LGathersAllFaults$Finding;)LGathersAllFaults$Finding;" } : Jvm.MethodName)) ∈ lw_all := lw_g (lw_at lw_m6 196 rfl) rfl
theorem q1534 : (Jvm.Cond.selects "GathersAllFaults$Finding" ({ cls := "GathersAllFaults$Finding", name := "and", desc := "(LGathersAllFaults$Finding;)LGathersAllFaults$Finding;" } : Jvm.MethodName) ({ cls := "GathersAllFaults$Finding", name := "and", desc := "(LGathersAllFaults$Finding;)LGathersAllFaults$Finding;" } : Jvm.MethodName)) ∈ lw_all := lw_g (lw_at lw_m6 197 rfl) rfl
theorem q1535 : (Jvm.Cond.code ({ cls := "GathersAllFaults$Finding", name := "and", desc := "(LGathersAllFaults$Finding;)LGathersAllFaults$Finding;" } : Jvm.MethodName) prog_6_method_6_code (2 : Nat) (Option.some (Jvm.ClassFile.FieldType.object "GathersAllFaults$Finding"))) ∈ lw_all := lw_g (lw_at lw_m6 198 rfl) rfl
theorem q1536 : (Jvm.Cond.methodLink "GathersAllFaults$Finding" (44 : Nat) ({ cls := "GathersAllFaults$Row", name := "addAll", desc := "(LGathersAllFaults$Row;)V" } : Jvm.MethodName)) ∈ lw_all := lw_g (lw_at lw_m6 199 rfl) rfl
theorem q1561 : (Jvm.Cond.instanceMethod ({ cls := "GathersAllFaults$Finding", name := "isNone", desc := "()Z" } : Jvm.MethodName)) ∈ lw_all := lw_g (lw_at lw_m6 224 rfl) rfl
theorem q1562 : (Jvm.Cond.selects "GathersAllFaults$Finding" ({ cls := "GathersAllFaults$Finding", name := "isNone", desc := "()Z" } : Jvm.MethodName) ({ cls := "GathersAllFaults$Finding", name := "isNone", desc := "()Z" } : Jvm.MethodName)) ∈ lw_all := lw_g (lw_at lw_m6 225 rfl) rfl
theorem q1563 : (Jvm.Cond.code ({ cls := "GathersAllFaults$Finding", name := "isNone", desc := "()Z" } : Jvm.MethodName) prog_6_method_4_code (1 : Nat) (Option.some Jvm.ClassFile.FieldType.boolean)) ∈ lw_all := lw_g (lw_at lw_m6 226 rfl) rfl
theorem q2761 : (Jvm.Cond.castable "GathersAllFaults$Finding" "java/lang/Object") ∈ lw_tbl := lw_at lw_m11 224 rfl
theorem in_X17 : ∀ w ∈ wsX170, w ∈ lw_all := lw_in wsX170 [1434, 1436, 1438] (by decide +kernel) (by decide +kernel)

/-! GathersAllFaults$Row -/
set_option maxRecDepth 100000
def RX18 : String := "GathersAllFaults$Row"
def TX18 : u_T := fun k => match k with
  | 0 => ("GathersAllFaults$Row", "all", "[Ljava/lang/Object;", false)
  | _ => ("GathersAllFaults$Row", "many", "I", false)
def tyX18 : Nat → FieldType := fun k => match k with
  | 0 => .array (.object "java/lang/Object")
  | _ => .int
abbrev wsX180 : List Cond := u_ws RX18 TX18 2
theorem nmX18 : ∀ a, a < 2 → ∀ b, b < 2 → a ≠ b → (TX18 a).2.1 ≠ (TX18 b).2.1 := by decide +kernel
theorem tyX18_ok : ∀ k, k < 2 → parseFieldDescriptor (TX18 k).2.2.1 = some (tyX18 k) := by decide +kernel
abbrev cX18_add : ByteArray := prog_19_method_2_code
def yX18_add : MethodName := ⟨RX18, "add", "(LGathersAllFaults$Placed;)V"⟩
def dkwX18_add_2 : List UInt8 := [180, 0, 15, 43, 83, 42, 89, 180, 0, 15, 4, 96, 181, 0, 15, 177]
abbrev dktX18_add_2 : List UInt8 := dkwX18_add_2 ++ []
def dkwX18_add_1 : List UInt8 := [180, 0, 9, 3, 44, 3, 42, 180, 0, 15, 184, 0, 19, 42, 44, 181, 0, 9, 42, 180, 0, 9, 42]
abbrev dktX18_add_1 : List UInt8 := dkwX18_add_1 ++ dktX18_add_2
def dkwX18_add_0 : List UInt8 := [42, 180, 0, 15, 42, 180, 0, 9, 190, 160, 0, 32, 5, 42, 180, 0, 15, 104, 189, 0, 4, 77, 42]
abbrev dktX18_add_0 : List UInt8 := dkwX18_add_0 ++ dktX18_add_1
theorem dksX18_add_0 : cX18_add.data.toList.drop 0 = dktX18_add_0 := by decide +kernel
theorem dksX18_add_1 : cX18_add.data.toList.drop 23 = dktX18_add_1 := dk_seg dksX18_add_0 23 rfl rfl
theorem dksX18_add_2 : cX18_add.data.toList.drop 46 = dktX18_add_2 := dk_seg dksX18_add_1 23 rfl rfl
theorem dX18_add_0 : decode cX18_add 0 = .ok (.aload_n 0, 1) := dk_42 (dk_at dksX18_add_0 0 rfl rfl)
theorem dX18_add_1 : decode cX18_add 1 = .ok (.getfield 15, 3) := dk_180 0 15 (dk_at dksX18_add_0 1 rfl rfl)
theorem dX18_add_4 : decode cX18_add 4 = .ok (.aload_n 0, 1) := dk_42 (dk_at dksX18_add_0 4 rfl rfl)
theorem dX18_add_5 : decode cX18_add 5 = .ok (.getfield 9, 3) := dk_180 0 9 (dk_at dksX18_add_0 5 rfl rfl)
theorem dX18_add_8 : decode cX18_add 8 = .ok (.arraylength, 1) := dk_190 (dk_at dksX18_add_0 8 rfl rfl)
theorem dX18_add_9 : decode cX18_add 9 = .ok (.if_icmp .ne 32, 3) := dk_160 0 32 (dk_at dksX18_add_0 9 rfl rfl)
theorem dX18_add_12 : decode cX18_add 12 = .ok (.iconst 2, 1) := dk_5 (dk_at dksX18_add_0 12 rfl rfl)
theorem dX18_add_13 : decode cX18_add 13 = .ok (.aload_n 0, 1) := dk_42 (dk_at dksX18_add_0 13 rfl rfl)
theorem dX18_add_14 : decode cX18_add 14 = .ok (.getfield 15, 3) := dk_180 0 15 (dk_at dksX18_add_0 14 rfl rfl)
theorem dX18_add_17 : decode cX18_add 17 = .ok (.imul, 1) := dk_104 (dk_at dksX18_add_0 17 rfl rfl)
theorem dX18_add_18 : decode cX18_add 18 = .ok (.anewarray 4, 3) := dk_189 0 4 (dk_at dksX18_add_0 18 rfl rfl)
theorem dX18_add_21 : decode cX18_add 21 = .ok (.astore_n 2, 1) := dk_77 (dk_at dksX18_add_0 21 rfl rfl)
theorem dX18_add_22 : decode cX18_add 22 = .ok (.aload_n 0, 1) := dk_42 (dk_at dksX18_add_0 22 rfl rfl)
theorem dX18_add_23 : decode cX18_add 23 = .ok (.getfield 9, 3) := dk_180 0 9 (dk_at dksX18_add_1 0 rfl rfl)
theorem dX18_add_26 : decode cX18_add 26 = .ok (.iconst 0, 1) := dk_3 (dk_at dksX18_add_1 3 rfl rfl)
theorem dX18_add_27 : decode cX18_add 27 = .ok (.aload_n 2, 1) := dk_44 (dk_at dksX18_add_1 4 rfl rfl)
theorem dX18_add_28 : decode cX18_add 28 = .ok (.iconst 0, 1) := dk_3 (dk_at dksX18_add_1 5 rfl rfl)
theorem dX18_add_29 : decode cX18_add 29 = .ok (.aload_n 0, 1) := dk_42 (dk_at dksX18_add_1 6 rfl rfl)
theorem dX18_add_30 : decode cX18_add 30 = .ok (.getfield 15, 3) := dk_180 0 15 (dk_at dksX18_add_1 7 rfl rfl)
theorem dX18_add_33 : decode cX18_add 33 = .ok (.invokestatic 19, 3) := dk_184 0 19 (dk_at dksX18_add_1 10 rfl rfl)
theorem dX18_add_36 : decode cX18_add 36 = .ok (.aload_n 0, 1) := dk_42 (dk_at dksX18_add_1 13 rfl rfl)
theorem dX18_add_37 : decode cX18_add 37 = .ok (.aload_n 2, 1) := dk_44 (dk_at dksX18_add_1 14 rfl rfl)
theorem dX18_add_38 : decode cX18_add 38 = .ok (.putfield 9, 3) := dk_181 0 9 (dk_at dksX18_add_1 15 rfl rfl)
theorem dX18_add_41 : decode cX18_add 41 = .ok (.aload_n 0, 1) := dk_42 (dk_at dksX18_add_1 18 rfl rfl)
theorem dX18_add_42 : decode cX18_add 42 = .ok (.getfield 9, 3) := dk_180 0 9 (dk_at dksX18_add_1 19 rfl rfl)
theorem dX18_add_45 : decode cX18_add 45 = .ok (.aload_n 0, 1) := dk_42 (dk_at dksX18_add_1 22 rfl rfl)
theorem dX18_add_46 : decode cX18_add 46 = .ok (.getfield 15, 3) := dk_180 0 15 (dk_at dksX18_add_2 0 rfl rfl)
theorem dX18_add_49 : decode cX18_add 49 = .ok (.aload_n 1, 1) := dk_43 (dk_at dksX18_add_2 3 rfl rfl)
theorem dX18_add_50 : decode cX18_add 50 = .ok (.aastore, 1) := dk_83 (dk_at dksX18_add_2 4 rfl rfl)
theorem dX18_add_51 : decode cX18_add 51 = .ok (.aload_n 0, 1) := dk_42 (dk_at dksX18_add_2 5 rfl rfl)
theorem dX18_add_52 : decode cX18_add 52 = .ok (.dup, 1) := dk_89 (dk_at dksX18_add_2 6 rfl rfl)
theorem dX18_add_53 : decode cX18_add 53 = .ok (.getfield 15, 3) := dk_180 0 15 (dk_at dksX18_add_2 7 rfl rfl)
theorem dX18_add_56 : decode cX18_add 56 = .ok (.iconst 1, 1) := dk_4 (dk_at dksX18_add_2 10 rfl rfl)
theorem dX18_add_57 : decode cX18_add 57 = .ok (.iadd, 1) := dk_96 (dk_at dksX18_add_2 11 rfl rfl)
theorem dX18_add_58 : decode cX18_add 58 = .ok (.putfield 15, 3) := dk_181 0 15 (dk_at dksX18_add_2 12 rfl rfl)
theorem dX18_add_61 : decode cX18_add 61 = .ok (.return_, 1) := dk_177 (dk_at dksX18_add_2 15 rfl rfl)
abbrev cX18_init : ByteArray := prog_19_method_1_code
def yX18_init : MethodName := ⟨RX18, "<init>", "()V"⟩
def dkwX18_init_0 : List UInt8 := [42, 183, 0, 3, 42, 16, 8, 189, 0, 4, 181, 0, 9, 177]
abbrev dktX18_init_0 : List UInt8 := dkwX18_init_0 ++ []
theorem dksX18_init_0 : cX18_init.data.toList.drop 0 = dktX18_init_0 := by decide +kernel
theorem dX18_init_0 : decode cX18_init 0 = .ok (.aload_n 0, 1) := dk_42 (dk_at dksX18_init_0 0 rfl rfl)
theorem dX18_init_1 : decode cX18_init 1 = .ok (.invokespecial 3, 3) := dk_183 0 3 (dk_at dksX18_init_0 1 rfl rfl)
theorem dX18_init_4 : decode cX18_init 4 = .ok (.aload_n 0, 1) := dk_42 (dk_at dksX18_init_0 4 rfl rfl)
theorem dX18_init_5 : decode cX18_init 5 = .ok (.bipush 8, 2) := dk_16 8 (dk_at dksX18_init_0 5 rfl rfl)
theorem dX18_init_7 : decode cX18_init 7 = .ok (.anewarray 4, 3) := dk_189 0 4 (dk_at dksX18_init_0 7 rfl rfl)
theorem dX18_init_10 : decode cX18_init 10 = .ok (.putfield 9, 3) := dk_181 0 9 (dk_at dksX18_init_0 10 rfl rfl)
theorem dX18_init_13 : decode cX18_init 13 = .ok (.return_, 1) := dk_177 (dk_at dksX18_init_0 13 rfl rfl)
abbrev cX18_empties : ByteArray := prog_19_method_6_code
def yX18_empties : MethodName := ⟨RX18, "empties", "()V"⟩
def dkwX18_empties_0 : List UInt8 := [42, 3, 181, 0, 15, 177]
abbrev dktX18_empties_0 : List UInt8 := dkwX18_empties_0 ++ []
theorem dksX18_empties_0 : cX18_empties.data.toList.drop 0 = dktX18_empties_0 := by decide +kernel
theorem dX18_empties_0 : decode cX18_empties 0 = .ok (.aload_n 0, 1) := dk_42 (dk_at dksX18_empties_0 0 rfl rfl)
theorem dX18_empties_1 : decode cX18_empties 1 = .ok (.iconst 0, 1) := dk_3 (dk_at dksX18_empties_0 1 rfl rfl)
theorem dX18_empties_2 : decode cX18_empties 2 = .ok (.putfield 15, 3) := dk_181 0 15 (dk_at dksX18_empties_0 2 rfl rfl)
theorem dX18_empties_5 : decode cX18_empties 5 = .ok (.return_, 1) := dk_177 (dk_at dksX18_empties_0 5 rfl rfl)
abbrev cX18_below : ByteArray := prog_19_method_5_code
def yX18_below : MethodName := ⟨RX18, "below", "(I)I"⟩
def dkwX18_below_1 : List UInt8 := [184, 0, 50, 153, 0, 7, 4, 167, 0, 4, 3, 96, 61, 132, 3, 1, 167, 255, 220, 28, 172]
abbrev dktX18_below_1 : List UInt8 := dkwX18_below_1 ++ []
def dkwX18_below_0 : List UInt8 := [3, 61, 3, 62, 29, 42, 180, 0, 15, 162, 0, 34, 28, 42, 29, 182, 0, 38, 185, 0, 46, 1, 0, 27]
abbrev dktX18_below_0 : List UInt8 := dkwX18_below_0 ++ dktX18_below_1
theorem dksX18_below_0 : cX18_below.data.toList.drop 0 = dktX18_below_0 := by decide +kernel
theorem dksX18_below_1 : cX18_below.data.toList.drop 24 = dktX18_below_1 := dk_seg dksX18_below_0 24 rfl rfl
theorem dX18_below_0 : decode cX18_below 0 = .ok (.iconst 0, 1) := dk_3 (dk_at dksX18_below_0 0 rfl rfl)
theorem dX18_below_1 : decode cX18_below 1 = .ok (.istore_n 2, 1) := dk_61 (dk_at dksX18_below_0 1 rfl rfl)
theorem dX18_below_2 : decode cX18_below 2 = .ok (.iconst 0, 1) := dk_3 (dk_at dksX18_below_0 2 rfl rfl)
theorem dX18_below_3 : decode cX18_below 3 = .ok (.istore_n 3, 1) := dk_62 (dk_at dksX18_below_0 3 rfl rfl)
theorem dX18_below_4 : decode cX18_below 4 = .ok (.iload_n 3, 1) := dk_29 (dk_at dksX18_below_0 4 rfl rfl)
theorem dX18_below_5 : decode cX18_below 5 = .ok (.aload_n 0, 1) := dk_42 (dk_at dksX18_below_0 5 rfl rfl)
theorem dX18_below_6 : decode cX18_below 6 = .ok (.getfield 15, 3) := dk_180 0 15 (dk_at dksX18_below_0 6 rfl rfl)
theorem dX18_below_9 : decode cX18_below 9 = .ok (.if_icmp .ge 34, 3) := dk_162 0 34 (dk_at dksX18_below_0 9 rfl rfl)
theorem dX18_below_12 : decode cX18_below 12 = .ok (.iload_n 2, 1) := dk_28 (dk_at dksX18_below_0 12 rfl rfl)
theorem dX18_below_13 : decode cX18_below 13 = .ok (.aload_n 0, 1) := dk_42 (dk_at dksX18_below_0 13 rfl rfl)
theorem dX18_below_14 : decode cX18_below 14 = .ok (.iload_n 3, 1) := dk_29 (dk_at dksX18_below_0 14 rfl rfl)
theorem dX18_below_15 : decode cX18_below 15 = .ok (.invokevirtual 38, 3) := dk_182 0 38 (dk_at dksX18_below_0 15 rfl rfl)
theorem dX18_below_18 : decode cX18_below 18 = .ok (.invokeinterface 46 1, 5) := by decide +kernel
theorem dX18_below_23 : decode cX18_below 23 = .ok (.iload_n 1, 1) := dk_27 (dk_at dksX18_below_0 23 rfl rfl)
theorem dX18_below_24 : decode cX18_below 24 = .ok (.invokestatic 50, 3) := dk_184 0 50 (dk_at dksX18_below_1 0 rfl rfl)
theorem dX18_below_27 : decode cX18_below 27 = .ok (.ifCond .eq 7, 3) := dk_153 0 7 (dk_at dksX18_below_1 3 rfl rfl)
theorem dX18_below_30 : decode cX18_below 30 = .ok (.iconst 1, 1) := dk_4 (dk_at dksX18_below_1 6 rfl rfl)
theorem dX18_below_31 : decode cX18_below 31 = .ok (.goto 4, 3) := dk_167 0 4 (dk_at dksX18_below_1 7 rfl rfl)
theorem dX18_below_34 : decode cX18_below 34 = .ok (.iconst 0, 1) := dk_3 (dk_at dksX18_below_1 10 rfl rfl)
theorem dX18_below_35 : decode cX18_below 35 = .ok (.iadd, 1) := dk_96 (dk_at dksX18_below_1 11 rfl rfl)
theorem dX18_below_36 : decode cX18_below 36 = .ok (.istore_n 2, 1) := dk_61 (dk_at dksX18_below_1 12 rfl rfl)
theorem dX18_below_37 : decode cX18_below 37 = .ok (.iinc 3 1, 3) := dk_132 3 1 (dk_at dksX18_below_1 13 rfl rfl)
theorem dX18_below_40 : decode cX18_below 40 = .ok (.goto (-36), 3) := dk_167 255 220 (dk_at dksX18_below_1 16 rfl rfl)
theorem dX18_below_43 : decode cX18_below 43 = .ok (.iload_n 2, 1) := dk_28 (dk_at dksX18_below_1 19 rfl rfl)
theorem dX18_below_44 : decode cX18_below 44 = .ok (.ireturn, 1) := dk_172 (dk_at dksX18_below_1 20 rfl rfl)
abbrev cX18_at : ByteArray := prog_19_method_3_code
def yX18_at : MethodName := ⟨RX18, "at", "(I)LGathersAllFaults$Placed;"⟩
def dkwX18_at_1 : List UInt8 := [44, 192, 0, 29, 176, 77, 187, 0, 33, 89, 2, 183, 0, 35, 191]
abbrev dktX18_at_1 : List UInt8 := dkwX18_at_1 ++ []
def dkwX18_at_0 : List UInt8 := [42, 180, 0, 9, 27, 50, 77, 27, 42, 180, 0, 15, 162, 0, 7, 4, 167, 0, 4, 3, 2, 184, 0, 25]
abbrev dktX18_at_0 : List UInt8 := dkwX18_at_0 ++ dktX18_at_1
theorem dksX18_at_0 : cX18_at.data.toList.drop 0 = dktX18_at_0 := by decide +kernel
theorem dksX18_at_1 : cX18_at.data.toList.drop 24 = dktX18_at_1 := dk_seg dksX18_at_0 24 rfl rfl
theorem dX18_at_0 : decode cX18_at 0 = .ok (.aload_n 0, 1) := dk_42 (dk_at dksX18_at_0 0 rfl rfl)
theorem dX18_at_1 : decode cX18_at 1 = .ok (.getfield 9, 3) := dk_180 0 9 (dk_at dksX18_at_0 1 rfl rfl)
theorem dX18_at_4 : decode cX18_at 4 = .ok (.iload_n 1, 1) := dk_27 (dk_at dksX18_at_0 4 rfl rfl)
theorem dX18_at_5 : decode cX18_at 5 = .ok (.aaload, 1) := dk_50 (dk_at dksX18_at_0 5 rfl rfl)
theorem dX18_at_6 : decode cX18_at 6 = .ok (.astore_n 2, 1) := dk_77 (dk_at dksX18_at_0 6 rfl rfl)
theorem dX18_at_7 : decode cX18_at 7 = .ok (.iload_n 1, 1) := dk_27 (dk_at dksX18_at_0 7 rfl rfl)
theorem dX18_at_8 : decode cX18_at 8 = .ok (.aload_n 0, 1) := dk_42 (dk_at dksX18_at_0 8 rfl rfl)
theorem dX18_at_9 : decode cX18_at 9 = .ok (.getfield 15, 3) := dk_180 0 15 (dk_at dksX18_at_0 9 rfl rfl)
theorem dX18_at_12 : decode cX18_at 12 = .ok (.if_icmp .ge 7, 3) := dk_162 0 7 (dk_at dksX18_at_0 12 rfl rfl)
theorem dX18_at_15 : decode cX18_at 15 = .ok (.iconst 1, 1) := dk_4 (dk_at dksX18_at_0 15 rfl rfl)
theorem dX18_at_16 : decode cX18_at 16 = .ok (.goto 4, 3) := dk_167 0 4 (dk_at dksX18_at_0 16 rfl rfl)
theorem dX18_at_19 : decode cX18_at 19 = .ok (.iconst 0, 1) := dk_3 (dk_at dksX18_at_0 19 rfl rfl)
theorem dX18_at_20 : decode cX18_at 20 = .ok (.iconst (-1), 1) := dk_2 (dk_at dksX18_at_0 20 rfl rfl)
theorem dX18_at_21 : decode cX18_at 21 = .ok (.invokestatic 25, 3) := dk_184 0 25 (dk_at dksX18_at_0 21 rfl rfl)
theorem dX18_at_24 : decode cX18_at 24 = .ok (.aload_n 2, 1) := dk_44 (dk_at dksX18_at_1 0 rfl rfl)
theorem dX18_at_25 : decode cX18_at 25 = .ok (.checkcast 29, 3) := dk_192 0 29 (dk_at dksX18_at_1 1 rfl rfl)
theorem dX18_at_28 : decode cX18_at 28 = .ok (.areturn, 1) := dk_176 (dk_at dksX18_at_1 4 rfl rfl)
theorem dX18_at_29 : decode cX18_at 29 = .ok (.astore_n 2, 1) := dk_77 (dk_at dksX18_at_1 5 rfl rfl)
theorem dX18_at_30 : decode cX18_at 30 = .ok (.new 33, 3) := dk_187 0 33 (dk_at dksX18_at_1 6 rfl rfl)
theorem dX18_at_33 : decode cX18_at 33 = .ok (.dup, 1) := dk_89 (dk_at dksX18_at_1 9 rfl rfl)
theorem dX18_at_34 : decode cX18_at 34 = .ok (.iconst (-1), 1) := dk_2 (dk_at dksX18_at_1 10 rfl rfl)
theorem dX18_at_35 : decode cX18_at 35 = .ok (.invokespecial 35, 3) := dk_183 0 35 (dk_at dksX18_at_1 11 rfl rfl)
theorem dX18_at_38 : decode cX18_at 38 = .ok (.athrow, 1) := dk_191 (dk_at dksX18_at_1 14 rfl rfl)
abbrev cX18_addAll : ByteArray := prog_19_method_4_code
def yX18_addAll : MethodName := ⟨RX18, "addAll", "(LGathersAllFaults$Row;)V"⟩
def dkwX18_addAll_1 : List UInt8 := [167, 255, 236, 177]
abbrev dktX18_addAll_1 : List UInt8 := dkwX18_addAll_1 ++ []
def dkwX18_addAll_0 : List UInt8 := [3, 61, 28, 43, 180, 0, 15, 162, 0, 18, 42, 43, 28, 182, 0, 38, 182, 0, 42, 132, 2, 1]
abbrev dktX18_addAll_0 : List UInt8 := dkwX18_addAll_0 ++ dktX18_addAll_1
theorem dksX18_addAll_0 : cX18_addAll.data.toList.drop 0 = dktX18_addAll_0 := by decide +kernel
theorem dksX18_addAll_1 : cX18_addAll.data.toList.drop 22 = dktX18_addAll_1 := dk_seg dksX18_addAll_0 22 rfl rfl
theorem dX18_addAll_0 : decode cX18_addAll 0 = .ok (.iconst 0, 1) := dk_3 (dk_at dksX18_addAll_0 0 rfl rfl)
theorem dX18_addAll_1 : decode cX18_addAll 1 = .ok (.istore_n 2, 1) := dk_61 (dk_at dksX18_addAll_0 1 rfl rfl)
theorem dX18_addAll_2 : decode cX18_addAll 2 = .ok (.iload_n 2, 1) := dk_28 (dk_at dksX18_addAll_0 2 rfl rfl)
theorem dX18_addAll_3 : decode cX18_addAll 3 = .ok (.aload_n 1, 1) := dk_43 (dk_at dksX18_addAll_0 3 rfl rfl)
theorem dX18_addAll_4 : decode cX18_addAll 4 = .ok (.getfield 15, 3) := dk_180 0 15 (dk_at dksX18_addAll_0 4 rfl rfl)
theorem dX18_addAll_7 : decode cX18_addAll 7 = .ok (.if_icmp .ge 18, 3) := dk_162 0 18 (dk_at dksX18_addAll_0 7 rfl rfl)
theorem dX18_addAll_10 : decode cX18_addAll 10 = .ok (.aload_n 0, 1) := dk_42 (dk_at dksX18_addAll_0 10 rfl rfl)
theorem dX18_addAll_11 : decode cX18_addAll 11 = .ok (.aload_n 1, 1) := dk_43 (dk_at dksX18_addAll_0 11 rfl rfl)
theorem dX18_addAll_12 : decode cX18_addAll 12 = .ok (.iload_n 2, 1) := dk_28 (dk_at dksX18_addAll_0 12 rfl rfl)
theorem dX18_addAll_13 : decode cX18_addAll 13 = .ok (.invokevirtual 38, 3) := dk_182 0 38 (dk_at dksX18_addAll_0 13 rfl rfl)
theorem dX18_addAll_16 : decode cX18_addAll 16 = .ok (.invokevirtual 42, 3) := dk_182 0 42 (dk_at dksX18_addAll_0 16 rfl rfl)
theorem dX18_addAll_19 : decode cX18_addAll 19 = .ok (.iinc 2 1, 3) := dk_132 2 1 (dk_at dksX18_addAll_0 19 rfl rfl)
theorem dX18_addAll_22 : decode cX18_addAll 22 = .ok (.goto (-20), 3) := dk_167 255 236 (dk_at dksX18_addAll_1 0 rfl rfl)
theorem dX18_addAll_25 : decode cX18_addAll 25 = .ok (.return_, 1) := dk_177 (dk_at dksX18_addAll_1 3 rfl rfl)
theorem q178 : (Jvm.Cond.initialized "GathersAllFaults$Row") ∈ lw_all := lw_g (lw_at lw_m1 41 rfl) rfl
theorem q651 : (Jvm.Cond.selects "GathersAllFaults$Row" ({ cls := "java/lang/Object", name := "hashCode", desc := "()I" } : Jvm.MethodName) ({ cls := "java/lang/Object", name := "hashCode", desc := "()I" } : Jvm.MethodName)) ∈ lw_all := lw_g (lw_at lw_m3 34 rfl) rfl
theorem q716 : (Jvm.Cond.selects "GathersAllFaults$Row" ({ cls := "java/lang/Object", name := "equals", desc := "(Ljava/lang/Object;)Z" } : Jvm.MethodName) ({ cls := "java/lang/Object", name := "equals", desc := "(Ljava/lang/Object;)Z" } : Jvm.MethodName)) ∈ lw_all := lw_g (lw_at lw_m3 99 rfl) rfl
theorem q765 : (Jvm.Cond.selects "GathersAllFaults$Row" ({ cls := "java/lang/Object", name := "getClass", desc := "()Ljava/lang/Class;" } : Jvm.MethodName) ({ cls := "java/lang/Object", name := "getClass", desc := "()Ljava/lang/Class;" } : Jvm.MethodName)) ∈ lw_all := lw_g (lw_at lw_m3 148 rfl) rfl
theorem q1289 : (Jvm.Cond.instanceMethod ({ cls := "GathersAllFaults$Row", name := "add", desc := "(LGathersAllFaults$Placed;)V" } : Jvm.MethodName)) ∈ lw_all := lw_g (lw_at lw_m5 192 rfl) rfl
theorem q1290 : (Jvm.Cond.selects "GathersAllFaults$Row" ({ cls := "GathersAllFaults$Row", name := "add", desc := "(LGathersAllFaults$Placed;)V" } : Jvm.MethodName) ({ cls := "GathersAllFaults$Row", name := "add", desc := "(LGathersAllFaults$Placed;)V" } : Jvm.MethodName)) ∈ lw_all := lw_g (lw_at lw_m5 193 rfl) rfl
theorem q1291 : (Jvm.Cond.code ({ cls := "GathersAllFaults$Row", name := "add", desc := "(LGathersAllFaults$Placed;)V" } : Jvm.MethodName) prog_19_method_2_code (3 : Nat) (Option.none : Option Jvm.ClassFile.FieldType)) ∈ lw_all := lw_g (lw_at lw_m5 194 rfl) rfl
theorem q1292 : (Jvm.Cond.classLink "GathersAllFaults$Row" (4 : Nat) "java/lang/Object") ∈ lw_all := lw_g (lw_at lw_m5 195 rfl) rfl
theorem q1294 : (Jvm.Cond.methodLink "GathersAllFaults$Row" (19 : Nat) ({ cls := "java/lang/System", name := "arraycopy", desc := "(Ljava/lang/Object;ILjava/lang/Object;II)V" } : Jvm.MethodName)) ∈ lw_all := lw_g (lw_at lw_m5 197 rfl) rfl
theorem q1412 : (Jvm.Cond.instantiable "GathersAllFaults$Row" (2 : Nat)) ∈ lw_all := lw_g (lw_at lw_m6 75 rfl) rfl
theorem q1414 : (Jvm.Cond.instanceMethod ({ cls := "GathersAllFaults$Row", name := "<init>", desc := "()V" } : Jvm.MethodName)) ∈ lw_all := lw_g (lw_at lw_m6 77 rfl) rfl
theorem q1415 : (Jvm.Cond.code ({ cls := "GathersAllFaults$Row", name := "<init>", desc := "()V" } : Jvm.MethodName) prog_19_method_1_code (1 : Nat) (Option.none : Option Jvm.ClassFile.FieldType)) ∈ lw_all := lw_g (lw_at lw_m6 78 rfl) rfl
theorem q1416 : (Jvm.Cond.methodLink "GathersAllFaults$Row" (3 : Nat) ({ cls := "java/lang/Object", name := "<init>", desc := "()V" } : Jvm.MethodName)) ∈ lw_all := lw_g (lw_at lw_m6 79 rfl) rfl
theorem q1417 : (Jvm.Cond.fieldLink "GathersAllFaults$Row" (9 : Nat) "GathersAllFaults$Row" "all" "[Ljava/lang/Object;") ∈ lw_all := lw_g (lw_at lw_m6 80 rfl) rfl
theorem q1418 : (Jvm.Cond.fieldLink "GathersAllFaults$Row" (15 : Nat) "GathersAllFaults$Row" "many" "I") ∈ lw_all := lw_g (lw_at lw_m6 81 rfl) rfl
theorem q1421 : (Jvm.Cond.lays "GathersAllFaults$Row" "GathersAllFaults$Row" "all" "[Ljava/lang/Object;") ∈ lw_all := lw_g (lw_at lw_m6 84 rfl) rfl
theorem q1422 : (Jvm.Cond.soleField "GathersAllFaults$Row" "all") ∈ lw_all := lw_g (lw_at lw_m6 85 rfl) rfl
theorem q1423 : (Jvm.Cond.lays "GathersAllFaults$Row" "GathersAllFaults$Row" "many" "I") ∈ lw_all := lw_g (lw_at lw_m6 86 rfl) rfl
theorem q1424 : (Jvm.Cond.soleField "GathersAllFaults$Row" "many") ∈ lw_all := lw_g (lw_at lw_m6 87 rfl) rfl
theorem q1425 : (Jvm.Cond.superclass "GathersAllFaults$Row" "java/lang/Object") ∈ lw_all := lw_g (lw_at lw_m6 88 rfl) rfl
theorem q1446 : (Jvm.Cond.instanceMethod ({ cls := "GathersAllFaults$Row", name := "empties", desc := "()V" } : Jvm.MethodName)) ∈ lw_all := lw_g (lw_at lw_m6 109 rfl) rfl
theorem q1447 : (Jvm.Cond.selects "GathersAllFaults$Row" ({ cls := "GathersAllFaults$Row", name := "empties", desc := "()V" } : Jvm.MethodName) ({ cls := "GathersAllFaults$Row", name := "empties", desc := "()V" } : Jvm.MethodName)) ∈ lw_all := lw_g (lw_at lw_m6 110 rfl) rfl
theorem q1448 : (Jvm.Cond.code ({ cls := "GathersAllFaults$Row", name := "empties", desc := "()V" } : Jvm.MethodName) prog_19_method_6_code (1 : Nat) (Option.none : Option Jvm.ClassFile.FieldType)) ∈ lw_all := lw_g (lw_at lw_m6 111 rfl) rfl
theorem q1466 : (Jvm.Cond.instanceMethod ({ cls := "GathersAllFaults$Row", name := "below", desc := "(I)I" } : Jvm.MethodName)) ∈ lw_all := lw_g (lw_at lw_m6 129 rfl) rfl
theorem q1467 : (Jvm.Cond.selects "GathersAllFaults$Row" ({ cls := "GathersAllFaults$Row", name := "below", desc := "(I)I" } : Jvm.MethodName) ({ cls := "GathersAllFaults$Row", name := "below", desc := "(I)I" } : Jvm.MethodName)) ∈ lw_all := lw_g (lw_at lw_m6 130 rfl) rfl
theorem q1468 : (Jvm.Cond.code ({ cls := "GathersAllFaults$Row", name := "below", desc := "(I)I" } : Jvm.MethodName) prog_19_method_5_code (4 : Nat) (Option.some Jvm.ClassFile.FieldType.int)) ∈ lw_all := lw_g (lw_at lw_m6 131 rfl) rfl
theorem q1469 : (Jvm.Cond.methodLink "GathersAllFaults$Row" (38 : Nat) ({ cls := "GathersAllFaults$Row", name := "at", desc := "(I)LGathersAllFaults$Placed;" } : Jvm.MethodName)) ∈ lw_all := lw_g (lw_at lw_m6 132 rfl) rfl
theorem q1470 : (Jvm.Cond.instanceMethod ({ cls := "GathersAllFaults$Row", name := "at", desc := "(I)LGathersAllFaults$Placed;" } : Jvm.MethodName)) ∈ lw_all := lw_g (lw_at lw_m6 133 rfl) rfl
theorem q1471 : (Jvm.Cond.selects "GathersAllFaults$Row" ({ cls := "GathersAllFaults$Row", name := "at", desc := "(I)LGathersAllFaults$Placed;" } : Jvm.MethodName) ({ cls := "GathersAllFaults$Row", name := "at", desc := "(I)LGathersAllFaults$Placed;" } : Jvm.MethodName)) ∈ lw_all := lw_g (lw_at lw_m6 134 rfl) rfl
theorem q1472 : (Jvm.Cond.codeWith ({ cls := "GathersAllFaults$Row", name := "at", desc := "(I)LGathersAllFaults$Placed;" } : Jvm.MethodName) prog_19_method_3_code (3 : Nat) (Option.some (Jvm.ClassFile.FieldType.object "GathersAllFaults$Placed")) [((0 : Nat), (28 : Nat), (29 : Nat), (31 : Nat))]) ∈ lw_all := lw_g (lw_at lw_m6 135 rfl) rfl
theorem q1473 : (Jvm.Cond.classLink "GathersAllFaults$Row" (31 : Nat) "java/lang/ArrayIndexOutOfBoundsException") ∈ lw_all := lw_g (lw_at lw_m6 136 rfl) rfl
theorem q1505 : (Jvm.Cond.methodLinkNest "GathersAllFaults$Row" (25 : Nat) ({ cls := "GathersAllFaults", name := "must", desc := "(ZI)V" } : Jvm.MethodName) "GathersAllFaults") ∈ lw_tbl := lw_at lw_m6 168 rfl
theorem q1506 : (Jvm.Cond.classLink "GathersAllFaults$Row" (29 : Nat) "GathersAllFaults$Placed") ∈ lw_all := lw_g (lw_at lw_m6 169 rfl) rfl
theorem q1507 : (Jvm.Cond.classLink "GathersAllFaults$Row" (33 : Nat) "GathersAllFaults$Refused") ∈ lw_all := lw_g (lw_at lw_m6 170 rfl) rfl
theorem q1508 : (Jvm.Cond.methodLink "GathersAllFaults$Row" (35 : Nat) ({ cls := "GathersAllFaults$Refused", name := "<init>", desc := "(I)V" } : Jvm.MethodName)) ∈ lw_all := lw_g (lw_at lw_m6 171 rfl) rfl
theorem q1509 : (Jvm.Cond.interfaceEntry "GathersAllFaults$Row" (46 : Nat)) ∈ lw_tbl := lw_at lw_m6 172 rfl
theorem q1510 : (Jvm.Cond.methodLink "GathersAllFaults$Row" (46 : Nat) ({ cls := "GathersAllFaults$Placed", name := "path", desc := "()I" } : Jvm.MethodName)) ∈ lw_all := lw_g (lw_at lw_m6 173 rfl) rfl
theorem q1525 : (Jvm.Cond.methodLinkNest "GathersAllFaults$Row" (50 : Nat) ({ cls := "GathersAllFaults", name := "isBelow", desc := "(II)Z" } : Jvm.MethodName) "GathersAllFaults") ∈ lw_tbl := lw_at lw_m6 188 rfl
theorem q1537 : (Jvm.Cond.instanceMethod ({ cls := "GathersAllFaults$Row", name := "addAll", desc := "(LGathersAllFaults$Row;)V" } : Jvm.MethodName)) ∈ lw_all := lw_g (lw_at lw_m6 200 rfl) rfl
theorem q1538 : (Jvm.Cond.selects "GathersAllFaults$Row" ({ cls := "GathersAllFaults$Row", name := "addAll", desc := "(LGathersAllFaults$Row;)V" } : Jvm.MethodName) ({ cls := "GathersAllFaults$Row", name := "addAll", desc := "(LGathersAllFaults$Row;)V" } : Jvm.MethodName)) ∈ lw_all := lw_g (lw_at lw_m6 201 rfl) rfl
theorem q1539 : (Jvm.Cond.code ({ cls := "GathersAllFaults$Row", name := "addAll", desc := "(LGathersAllFaults$Row;)V" } : Jvm.MethodName) prog_19_method_4_code (3 : Nat) (Option.none : Option Jvm.ClassFile.FieldType)) ∈ lw_all := lw_g (lw_at lw_m6 202 rfl) rfl
theorem q1540 : (Jvm.Cond.methodLink "GathersAllFaults$Row" (42 : Nat) ({ cls := "GathersAllFaults$Row", name := "add", desc := "(LGathersAllFaults$Placed;)V" } : Jvm.MethodName)) ∈ lw_all := lw_g (lw_at lw_m6 203 rfl) rfl
theorem q2762 : (Jvm.Cond.castable "GathersAllFaults$Row" "java/lang/Object") ∈ lw_tbl := lw_at lw_m11 225 rfl
theorem in_X18 : ∀ w ∈ wsX180, w ∈ lw_all := lw_in wsX180 [1421, 1423] (by decide +kernel) (by decide +kernel)

/-! GathersAllFaults$Part -/
set_option maxRecDepth 100000
def RX19 : String := "GathersAllFaults$Part"
def TX19 : u_T := fun k => match k with
  | 0 => ("GathersAllFaults$Part", "path", "I", true)
  | _ => ("GathersAllFaults$Part", "value", "LGathersAllFaults$Value;", true)
def tyX19 : Nat → FieldType := fun k => match k with
  | 0 => .int
  | _ => .object "GathersAllFaults$Value"
abbrev wsX190 : List Cond := u_ws RX19 TX19 2
theorem nmX19 : ∀ a, a < 2 → ∀ b, b < 2 → a ≠ b → (TX19 a).2.1 ≠ (TX19 b).2.1 := by decide +kernel
theorem tyX19_ok : ∀ k, k < 2 → parseFieldDescriptor (TX19 k).2.2.1 = some (tyX19 k) := by decide +kernel
abbrev cX19_path : ByteArray := prog_13_method_2_code
def yX19_path : MethodName := ⟨RX19, "path", "()I"⟩
theorem dX19_path_0 : decode cX19_path 0 = .ok (.aload_n 0, 1) := by decide +kernel
theorem dX19_path_1 : decode cX19_path 1 = .ok (.getfield 7, 3) := by decide +kernel
theorem dX19_path_4 : decode cX19_path 4 = .ok (.ireturn, 1) := by decide +kernel
abbrev cX19_init : ByteArray := prog_13_method_1_code
def yX19_init : MethodName := ⟨RX19, "<init>", "(ILGathersAllFaults$Value;)V"⟩
def dkwX19_init_0 : List UInt8 := [42, 183, 0, 1, 42, 27, 181, 0, 7, 42, 44, 181, 0, 13, 177]
abbrev dktX19_init_0 : List UInt8 := dkwX19_init_0 ++ []
theorem dksX19_init_0 : cX19_init.data.toList.drop 0 = dktX19_init_0 := by decide +kernel
theorem dX19_init_0 : decode cX19_init 0 = .ok (.aload_n 0, 1) := dk_42 (dk_at dksX19_init_0 0 rfl rfl)
theorem dX19_init_1 : decode cX19_init 1 = .ok (.invokespecial 1, 3) := dk_183 0 1 (dk_at dksX19_init_0 1 rfl rfl)
theorem dX19_init_4 : decode cX19_init 4 = .ok (.aload_n 0, 1) := dk_42 (dk_at dksX19_init_0 4 rfl rfl)
theorem dX19_init_5 : decode cX19_init 5 = .ok (.iload_n 1, 1) := dk_27 (dk_at dksX19_init_0 5 rfl rfl)
theorem dX19_init_6 : decode cX19_init 6 = .ok (.putfield 7, 3) := dk_181 0 7 (dk_at dksX19_init_0 6 rfl rfl)
theorem dX19_init_9 : decode cX19_init 9 = .ok (.aload_n 0, 1) := dk_42 (dk_at dksX19_init_0 9 rfl rfl)
theorem dX19_init_10 : decode cX19_init 10 = .ok (.aload_n 2, 1) := dk_44 (dk_at dksX19_init_0 10 rfl rfl)
theorem dX19_init_11 : decode cX19_init 11 = .ok (.putfield 13, 3) := dk_181 0 13 (dk_at dksX19_init_0 11 rfl rfl)
theorem dX19_init_14 : decode cX19_init 14 = .ok (.return_, 1) := dk_177 (dk_at dksX19_init_0 14 rfl rfl)
theorem q182 : (Jvm.Cond.initialized "GathersAllFaults$Part") ∈ lw_all := lw_g (lw_at lw_m1 45 rfl) rfl
theorem q647 : (Jvm.Cond.selects "GathersAllFaults$Part" ({ cls := "java/lang/Object", name := "hashCode", desc := "()I" } : Jvm.MethodName) ({ cls := "java/lang/Object", name := "hashCode", desc := "()I" } : Jvm.MethodName)) ∈ lw_all := lw_g (lw_at lw_m3 30 rfl) rfl
theorem q712 : (Jvm.Cond.selects "GathersAllFaults$Part" ({ cls := "java/lang/Object", name := "equals", desc := "(Ljava/lang/Object;)Z" } : Jvm.MethodName) ({ cls := "java/lang/Object", name := "equals", desc := "(Ljava/lang/Object;)Z" } : Jvm.MethodName)) ∈ lw_all := lw_g (lw_at lw_m3 95 rfl) rfl
theorem q761 : (Jvm.Cond.selects "GathersAllFaults$Part" ({ cls := "java/lang/Object", name := "getClass", desc := "()Ljava/lang/Class;" } : Jvm.MethodName) ({ cls := "java/lang/Object", name := "getClass", desc := "()Ljava/lang/Class;" } : Jvm.MethodName)) ∈ lw_all := lw_g (lw_at lw_m3 144 rfl) rfl
theorem q1519 : (Jvm.Cond.castable "GathersAllFaults$Part" "GathersAllFaults$Placed") ∈ lw_tbl := lw_at lw_m6 182 rfl
theorem q1520 : (Jvm.Cond.selects "GathersAllFaults$Part" ({ cls := "GathersAllFaults$Placed", name := "path", desc := "()I" } : Jvm.MethodName) ({ cls := "GathersAllFaults$Part", name := "path", desc := "()I" } : Jvm.MethodName)) ∈ lw_all := lw_g (lw_at lw_m6 183 rfl) rfl
theorem q1521 : (Jvm.Cond.unhidden "GathersAllFaults$Part" "path" "()I") ∈ lw_tbl := lw_at lw_m6 184 rfl
theorem q1522 : (Jvm.Cond.instanceMethod ({ cls := "GathersAllFaults$Part", name := "path", desc := "()I" } : Jvm.MethodName)) ∈ lw_all := lw_g (lw_at lw_m6 185 rfl) rfl
theorem q1523 : (Jvm.Cond.publicMethod ({ cls := "GathersAllFaults$Part", name := "path", desc := "()I" } : Jvm.MethodName)) ∈ lw_tbl := lw_at lw_m6 186 rfl
theorem q1524 : (Jvm.Cond.code ({ cls := "GathersAllFaults$Part", name := "path", desc := "()I" } : Jvm.MethodName) prog_13_method_2_code (1 : Nat) (Option.some Jvm.ClassFile.FieldType.int)) ∈ lw_all := lw_g (lw_at lw_m6 187 rfl) rfl
theorem q1608 : (Jvm.Cond.instantiable "GathersAllFaults$Part" (2 : Nat)) ∈ lw_all := lw_g (lw_at lw_m7 31 rfl) rfl
theorem q1610 : (Jvm.Cond.instanceMethod ({ cls := "GathersAllFaults$Part", name := "<init>", desc := "(ILGathersAllFaults$Value;)V" } : Jvm.MethodName)) ∈ lw_all := lw_g (lw_at lw_m7 33 rfl) rfl
theorem q1611 : (Jvm.Cond.code ({ cls := "GathersAllFaults$Part", name := "<init>", desc := "(ILGathersAllFaults$Value;)V" } : Jvm.MethodName) prog_13_method_1_code (3 : Nat) (Option.none : Option Jvm.ClassFile.FieldType)) ∈ lw_all := lw_g (lw_at lw_m7 34 rfl) rfl
theorem q1612 : (Jvm.Cond.methodLink "GathersAllFaults$Part" (1 : Nat) ({ cls := "java/lang/Object", name := "<init>", desc := "()V" } : Jvm.MethodName)) ∈ lw_all := lw_g (lw_at lw_m7 35 rfl) rfl
theorem q1613 : (Jvm.Cond.fieldLink "GathersAllFaults$Part" (7 : Nat) "GathersAllFaults$Part" "path" "I") ∈ lw_all := lw_g (lw_at lw_m7 36 rfl) rfl
theorem q1615 : (Jvm.Cond.fieldLink "GathersAllFaults$Part" (13 : Nat) "GathersAllFaults$Part" "value" "LGathersAllFaults$Value;") ∈ lw_all := lw_g (lw_at lw_m7 38 rfl) rfl
theorem q1617 : (Jvm.Cond.laysFinal "GathersAllFaults$Part" "GathersAllFaults$Part" "path" "I") ∈ lw_all := lw_g (lw_at lw_m7 40 rfl) rfl
theorem q1618 : (Jvm.Cond.soleField "GathersAllFaults$Part" "path") ∈ lw_all := lw_g (lw_at lw_m7 41 rfl) rfl
theorem q1619 : (Jvm.Cond.laysFinal "GathersAllFaults$Part" "GathersAllFaults$Part" "value" "LGathersAllFaults$Value;") ∈ lw_all := lw_g (lw_at lw_m7 42 rfl) rfl
theorem q1620 : (Jvm.Cond.soleField "GathersAllFaults$Part" "value") ∈ lw_all := lw_g (lw_at lw_m7 43 rfl) rfl
theorem q1621 : (Jvm.Cond.superclass "GathersAllFaults$Part" "java/lang/Object") ∈ lw_all := lw_g (lw_at lw_m7 44 rfl) rfl
theorem q2764 : (Jvm.Cond.castable "GathersAllFaults$Part" "java/lang/Object") ∈ lw_tbl := lw_at lw_m11 227 rfl
theorem in_X19 : ∀ w ∈ wsX190, w ∈ lw_all := lw_in wsX190 [1617, 1619] (by decide +kernel) (by decide +kernel)

/-! GathersAllFaults$Tally -/
set_option maxRecDepth 100000
def RX20 : String := "GathersAllFaults$Tally"
def TX20 : u_T := fun k => match k with
  | 0 => ("GathersAllFaults$Tally", "many", "I", false)
  | _ => ("GathersAllFaults$Tally", "path", "I", true)
def tyX20 : Nat → FieldType := fun k => match k with
  | 0 => .int
  | _ => .int
abbrev wsX200 : List Cond := u_ws RX20 TX20 2
theorem nmX20 : ∀ a, a < 2 → ∀ b, b < 2 → a ≠ b → (TX20 a).2.1 ≠ (TX20 b).2.1 := by decide +kernel
theorem tyX20_ok : ∀ k, k < 2 → parseFieldDescriptor (TX20 k).2.2.1 = some (tyX20 k) := by decide +kernel
abbrev cX20_init : ByteArray := prog_22_method_1_code
def yX20_init : MethodName := ⟨RX20, "<init>", "(I)V"⟩
def dkwX20_init_0 : List UInt8 := [42, 183, 0, 1, 42, 27, 181, 0, 7, 177]
abbrev dktX20_init_0 : List UInt8 := dkwX20_init_0 ++ []
theorem dksX20_init_0 : cX20_init.data.toList.drop 0 = dktX20_init_0 := by decide +kernel
theorem dX20_init_0 : decode cX20_init 0 = .ok (.aload_n 0, 1) := dk_42 (dk_at dksX20_init_0 0 rfl rfl)
theorem dX20_init_1 : decode cX20_init 1 = .ok (.invokespecial 1, 3) := dk_183 0 1 (dk_at dksX20_init_0 1 rfl rfl)
theorem dX20_init_4 : decode cX20_init 4 = .ok (.aload_n 0, 1) := dk_42 (dk_at dksX20_init_0 4 rfl rfl)
theorem dX20_init_5 : decode cX20_init 5 = .ok (.iload_n 1, 1) := dk_27 (dk_at dksX20_init_0 5 rfl rfl)
theorem dX20_init_6 : decode cX20_init 6 = .ok (.putfield 7, 3) := dk_181 0 7 (dk_at dksX20_init_0 6 rfl rfl)
theorem dX20_init_9 : decode cX20_init 9 = .ok (.return_, 1) := dk_177 (dk_at dksX20_init_0 9 rfl rfl)
theorem q184 : (Jvm.Cond.initialized "GathersAllFaults$Tally") ∈ lw_all := lw_g (lw_at lw_m1 47 rfl) rfl
theorem q654 : (Jvm.Cond.selects "GathersAllFaults$Tally" ({ cls := "java/lang/Object", name := "hashCode", desc := "()I" } : Jvm.MethodName) ({ cls := "java/lang/Object", name := "hashCode", desc := "()I" } : Jvm.MethodName)) ∈ lw_all := lw_g (lw_at lw_m3 37 rfl) rfl
theorem q719 : (Jvm.Cond.selects "GathersAllFaults$Tally" ({ cls := "java/lang/Object", name := "equals", desc := "(Ljava/lang/Object;)Z" } : Jvm.MethodName) ({ cls := "java/lang/Object", name := "equals", desc := "(Ljava/lang/Object;)Z" } : Jvm.MethodName)) ∈ lw_all := lw_g (lw_at lw_m3 102 rfl) rfl
theorem q768 : (Jvm.Cond.selects "GathersAllFaults$Tally" ({ cls := "java/lang/Object", name := "getClass", desc := "()Ljava/lang/Class;" } : Jvm.MethodName) ({ cls := "java/lang/Object", name := "getClass", desc := "()Ljava/lang/Class;" } : Jvm.MethodName)) ∈ lw_all := lw_g (lw_at lw_m3 151 rfl) rfl
theorem q1832 : (Jvm.Cond.instantiable "GathersAllFaults$Tally" (2 : Nat)) ∈ lw_all := lw_g (lw_at lw_m8 15 rfl) rfl
theorem q1834 : (Jvm.Cond.instanceMethod ({ cls := "GathersAllFaults$Tally", name := "<init>", desc := "(I)V" } : Jvm.MethodName)) ∈ lw_all := lw_g (lw_at lw_m8 17 rfl) rfl
theorem q1835 : (Jvm.Cond.code ({ cls := "GathersAllFaults$Tally", name := "<init>", desc := "(I)V" } : Jvm.MethodName) prog_22_method_1_code (2 : Nat) (Option.none : Option Jvm.ClassFile.FieldType)) ∈ lw_all := lw_g (lw_at lw_m8 18 rfl) rfl
theorem q1836 : (Jvm.Cond.methodLink "GathersAllFaults$Tally" (1 : Nat) ({ cls := "java/lang/Object", name := "<init>", desc := "()V" } : Jvm.MethodName)) ∈ lw_all := lw_g (lw_at lw_m8 19 rfl) rfl
theorem q1838 : (Jvm.Cond.fieldLink "GathersAllFaults$Tally" (7 : Nat) "GathersAllFaults$Tally" "path" "I") ∈ lw_all := lw_g (lw_at lw_m8 21 rfl) rfl
theorem q1840 : (Jvm.Cond.lays "GathersAllFaults$Tally" "GathersAllFaults$Tally" "many" "I") ∈ lw_all := lw_g (lw_at lw_m8 23 rfl) rfl
theorem q1841 : (Jvm.Cond.soleField "GathersAllFaults$Tally" "many") ∈ lw_all := lw_g (lw_at lw_m8 24 rfl) rfl
theorem q1842 : (Jvm.Cond.laysFinal "GathersAllFaults$Tally" "GathersAllFaults$Tally" "path" "I") ∈ lw_all := lw_g (lw_at lw_m8 25 rfl) rfl
theorem q1843 : (Jvm.Cond.soleField "GathersAllFaults$Tally" "path") ∈ lw_all := lw_g (lw_at lw_m8 26 rfl) rfl
theorem q1844 : (Jvm.Cond.superclass "GathersAllFaults$Tally" "java/lang/Object") ∈ lw_all := lw_g (lw_at lw_m8 27 rfl) rfl
theorem q2767 : (Jvm.Cond.castable "GathersAllFaults$Tally" "java/lang/Object") ∈ lw_tbl := lw_at lw_m11 230 rfl
theorem in_X20 : ∀ w ∈ wsX200, w ∈ lw_all := lw_in wsX200 [1840, 1842] (by decide +kernel) (by decide +kernel)
