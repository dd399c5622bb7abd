/-! GathersAllFaultsModel -/
set_option maxRecDepth 100000
def RX6 : String := "GathersAllFaultsModel"
def TX6 : u_T := fun k => match k with
  | 0 => ("GathersAllFaultsModel", "refused", "[I", true)
  | 1 => ("GathersAllFaultsModel", "sort", "[I", true)
  | 2 => ("GathersAllFaultsModel", "number", "[I", true)
  | 3 => ("GathersAllFaultsModel", "name", "[I", true)
  | 4 => ("GathersAllFaultsModel", "size", "[I", true)
  | 5 => ("GathersAllFaultsModel", "path", "[I", true)
  | 6 => ("GathersAllFaultsModel", "parts", "I", false)
  | 7 => ("GathersAllFaultsModel", "kindOf", "[I", true)
  | 8 => ("GathersAllFaultsModel", "lowOf", "[I", true)
  | 9 => ("GathersAllFaultsModel", "highOf", "[I", true)
  | 10 => ("GathersAllFaultsModel", "firstOf", "[I", true)
  | 11 => ("GathersAllFaultsModel", "secondOf", "[I", true)
  | 12 => ("GathersAllFaultsModel", "fieldOwner", "[I", true)
  | 13 => ("GathersAllFaultsModel", "fieldName", "[I", true)
  | 14 => ("GathersAllFaultsModel", "fieldMay", "[I", true)
  | 15 => ("GathersAllFaultsModel", "fieldCheck", "[I", true)
  | 16 => ("GathersAllFaultsModel", "waiterOwner", "[I", true)
  | 17 => ("GathersAllFaultsModel", "waiterKind", "[I", true)
  | 18 => ("GathersAllFaultsModel", "waiterOne", "[I", true)
  | 19 => ("GathersAllFaultsModel", "waiterOther", "[I", true)
  | 20 => ("GathersAllFaultsModel", "checks", "I", false)
  | 21 => ("GathersAllFaultsModel", "fields", "I", false)
  | 22 => ("GathersAllFaultsModel", "waiters", "I", false)
  | 23 => ("GathersAllFaultsModel", "wholes", "I", false)
  | 24 => ("GathersAllFaultsModel", "faultPath", "[I", true)
  | 25 => ("GathersAllFaultsModel", "faultCode", "[I", true)
  | 26 => ("GathersAllFaultsModel", "lookCheck", "[I", true)
  | 27 => ("GathersAllFaultsModel", "lookPart", "[I", true)
  | 28 => ("GathersAllFaultsModel", "lookPhase", "[I", true)
  | 29 => ("GathersAllFaultsModel", "lookMark", "[I", true)
  | 30 => ("GathersAllFaultsModel", "lookWaits", "[I", true)
  | 31 => ("GathersAllFaultsModel", "lookEnd", "[I", true)
  | 32 => ("GathersAllFaultsModel", "lookEndWaits", "[I", true)
  | 33 => ("GathersAllFaultsModel", "found", "I", false)
  | 34 => ("GathersAllFaultsModel", "waiting", "I", false)
  | 35 => ("GathersAllFaultsModel", "deep", "I", false)
  | 36 => ("GathersAllFaultsModel", "tape", "[I", true)
  | 37 => ("GathersAllFaultsModel", "openAt", "[I", true)
  | 38 => ("GathersAllFaultsModel", "openSort", "[I", true)
  | 39 => ("GathersAllFaultsModel", "openNames", "[I", true)
  | 40 => ("GathersAllFaultsModel", "openMany", "[I", true)
  | 41 => ("GathersAllFaultsModel", "openInside", "[I", true)
  | 42 => ("GathersAllFaultsModel", "taped", "I", false)
  | 43 => ("GathersAllFaultsModel", "reading", "I", false)
  | 44 => ("GathersAllFaultsModel", "badAt", "I", false)
  | 45 => ("GathersAllFaultsModel", "open", "I", false)
  | 46 => ("GathersAllFaultsModel", "nameTold", "I", false)
  | 47 => ("GathersAllFaultsModel", "kept", "[I", true)
  | 48 => ("GathersAllFaultsModel", "hasImage", "Z", false)
  | 49 => ("GathersAllFaultsModel", "isKeeping", "Z", false)
  | 50 => ("GathersAllFaultsModel", "cursor", "I", false)
  | 51 => ("GathersAllFaultsModel", "row", "[I", true)
  | 52 => ("GathersAllFaultsModel", "rowMany", "I", false)
  | _ => ("GathersAllFaultsModel", "lots", "I", false)
def tyX6 : Nat → FieldType := fun k => match k with
  | 0 => .array .int
  | 1 => .array .int
  | 2 => .array .int
  | 3 => .array .int
  | 4 => .array .int
  | 5 => .array .int
  | 6 => .int
  | 7 => .array .int
  | 8 => .array .int
  | 9 => .array .int
  | 10 => .array .int
  | 11 => .array .int
  | 12 => .array .int
  | 13 => .array .int
  | 14 => .array .int
  | 15 => .array .int
  | 16 => .array .int
  | 17 => .array .int
  | 18 => .array .int
  | 19 => .array .int
  | 20 => .int
  | 21 => .int
  | 22 => .int
  | 23 => .int
  | 24 => .array .int
  | 25 => .array .int
  | 26 => .array .int
  | 27 => .array .int
  | 28 => .array .int
  | 29 => .array .int
  | 30 => .array .int
  | 31 => .array .int
  | 32 => .array .int
  | 33 => .int
  | 34 => .int
  | 35 => .int
  | 36 => .array .int
  | 37 => .array .int
  | 38 => .array .int
  | 39 => .array .int
  | 40 => .array .int
  | 41 => .array .int
  | 42 => .int
  | 43 => .int
  | 44 => .int
  | 45 => .int
  | 46 => .int
  | 47 => .array .int
  | 48 => .boolean
  | 49 => .boolean
  | 50 => .int
  | 51 => .array .int
  | 52 => .int
  | _ => .int
abbrev wsX60 : List Cond := u_ws RX6 TX6 54
set_option maxRecDepth 100000 in
theorem nmX6 : ∀ a, a < 54 → ∀ b, b < 54 → a ≠ b → (TX6 a).2.1 ≠ (TX6 b).2.1 := by decide +kernel
set_option maxRecDepth 100000 in
theorem tyX6_ok : ∀ k, k < 54 → parseFieldDescriptor (TX6 k).2.2.1 = some (tyX6 k) := by decide +kernel
abbrev cX6_init : ByteArray := prog_25_method_1_code
def yX6_init : MethodName := ⟨RX6, "<init>", "()V"⟩
def dkwX6_init_13 : List UInt8 := [181, 0, 118, 42, 4, 181, 0, 122, 42, 180, 0, 28, 3, 16, 42, 79, 42, 182, 0, 125, 177]
abbrev dktX6_init_13 : List UInt8 := dkwX6_init_13 ++ []
def dkwX6_init_12 : List UInt8 := [181, 0, 109, 42, 17, 5, 120, 188, 10, 181, 0, 112, 42, 16, 32, 188, 10, 181, 0, 115, 42, 4]
abbrev dktX6_init_12 : List UInt8 := dkwX6_init_12 ++ dktX6_init_13
def dkwX6_init_11 : List UInt8 := [181, 0, 100, 42, 16, 100, 188, 10, 181, 0, 103, 42, 16, 100, 188, 10, 181, 0, 106, 42, 16, 100, 188, 10]
abbrev dktX6_init_11 : List UInt8 := dkwX6_init_11 ++ dktX6_init_12
def dkwX6_init_10 : List UInt8 := [181, 0, 91, 42, 16, 96, 188, 10, 181, 0, 94, 42, 16, 100, 188, 10, 181, 0, 97, 42, 16, 100, 188, 10]
abbrev dktX6_init_10 : List UInt8 := dkwX6_init_10 ++ dktX6_init_11
def dkwX6_init_9 : List UInt8 := [17, 1, 144, 188, 10, 181, 0, 85, 42, 17, 1, 144, 188, 10, 181, 0, 88, 42, 17, 1, 144, 188, 10]
abbrev dktX6_init_9 : List UInt8 := dkwX6_init_9 ++ dktX6_init_10
def dkwX6_init_8 : List UInt8 := [181, 0, 76, 42, 17, 1, 144, 188, 10, 181, 0, 79, 42, 17, 1, 144, 188, 10, 181, 0, 82, 42]
abbrev dktX6_init_8 : List UInt8 := dkwX6_init_8 ++ dktX6_init_9
def dkwX6_init_7 : List UInt8 := [17, 64, 0, 188, 10, 181, 0, 70, 42, 17, 1, 144, 188, 10, 181, 0, 73, 42, 17, 1, 144, 188, 10]
abbrev dktX6_init_7 : List UInt8 := dkwX6_init_7 ++ dktX6_init_8
def dkwX6_init_6 : List UInt8 := [188, 10, 181, 0, 61, 42, 16, 33, 188, 10, 181, 0, 64, 42, 17, 64, 0, 188, 10, 181, 0, 67, 42]
abbrev dktX6_init_6 : List UInt8 := dkwX6_init_6 ++ dktX6_init_7
def dkwX6_init_5 : List UInt8 := [188, 10, 181, 0, 52, 42, 16, 33, 188, 10, 181, 0, 55, 42, 16, 33, 188, 10, 181, 0, 58, 42, 16, 33]
abbrev dktX6_init_5 : List UInt8 := dkwX6_init_5 ++ dktX6_init_6
def dkwX6_init_4 : List UInt8 := [188, 10, 181, 0, 43, 42, 16, 25, 188, 10, 181, 0, 46, 42, 16, 25, 188, 10, 181, 0, 49, 42, 16, 25]
abbrev dktX6_init_4 : List UInt8 := dkwX6_init_4 ++ dktX6_init_5
def dkwX6_init_3 : List UInt8 := [188, 10, 181, 0, 34, 42, 16, 25, 188, 10, 181, 0, 37, 42, 16, 25, 188, 10, 181, 0, 40, 42, 16, 25]
abbrev dktX6_init_3 : List UInt8 := dkwX6_init_3 ++ dktX6_init_4
def dkwX6_init_2 : List UInt8 := [188, 10, 181, 0, 25, 42, 16, 25, 188, 10, 181, 0, 28, 42, 16, 25, 188, 10, 181, 0, 31, 42, 16, 25]
abbrev dktX6_init_2 : List UInt8 := dkwX6_init_2 ++ dktX6_init_3
def dkwX6_init_1 : List UInt8 := [188, 10, 181, 0, 16, 42, 16, 21, 188, 10, 181, 0, 19, 42, 16, 21, 188, 10, 181, 0, 22, 42, 16, 21]
abbrev dktX6_init_1 : List UInt8 := dkwX6_init_1 ++ dktX6_init_2
def dkwX6_init_0 : List UInt8 := [42, 183, 0, 1, 42, 16, 7, 188, 10, 181, 0, 7, 42, 16, 21, 188, 10, 181, 0, 13, 42, 16, 21]
abbrev dktX6_init_0 : List UInt8 := dkwX6_init_0 ++ dktX6_init_1
theorem dksX6_init_0 : cX6_init.data.toList.drop 0 = dktX6_init_0 := by decide +kernel
theorem dksX6_init_1 : cX6_init.data.toList.drop 23 = dktX6_init_1 := dk_seg dksX6_init_0 23 rfl rfl
theorem dksX6_init_2 : cX6_init.data.toList.drop 47 = dktX6_init_2 := dk_seg dksX6_init_1 24 rfl rfl
theorem dksX6_init_3 : cX6_init.data.toList.drop 71 = dktX6_init_3 := dk_seg dksX6_init_2 24 rfl rfl
theorem dksX6_init_4 : cX6_init.data.toList.drop 95 = dktX6_init_4 := dk_seg dksX6_init_3 24 rfl rfl
theorem dksX6_init_5 : cX6_init.data.toList.drop 119 = dktX6_init_5 := dk_seg dksX6_init_4 24 rfl rfl
theorem dksX6_init_6 : cX6_init.data.toList.drop 143 = dktX6_init_6 := dk_seg dksX6_init_5 24 rfl rfl
theorem dksX6_init_7 : cX6_init.data.toList.drop 166 = dktX6_init_7 := dk_seg dksX6_init_6 23 rfl rfl
theorem dksX6_init_8 : cX6_init.data.toList.drop 189 = dktX6_init_8 := dk_seg dksX6_init_7 23 rfl rfl
theorem dksX6_init_9 : cX6_init.data.toList.drop 211 = dktX6_init_9 := dk_seg dksX6_init_8 22 rfl rfl
theorem dksX6_init_10 : cX6_init.data.toList.drop 234 = dktX6_init_10 := dk_seg dksX6_init_9 23 rfl rfl
theorem dksX6_init_11 : cX6_init.data.toList.drop 258 = dktX6_init_11 := dk_seg dksX6_init_10 24 rfl rfl
theorem dksX6_init_12 : cX6_init.data.toList.drop 282 = dktX6_init_12 := dk_seg dksX6_init_11 24 rfl rfl
theorem dksX6_init_13 : cX6_init.data.toList.drop 304 = dktX6_init_13 := dk_seg dksX6_init_12 22 rfl rfl
theorem dX6_init_0 : decode cX6_init 0 = .ok (.aload_n 0, 1) := dk_42 (dk_at dksX6_init_0 0 rfl rfl)
theorem dX6_init_1 : decode cX6_init 1 = .ok (.invokespecial 1, 3) := dk_183 0 1 (dk_at dksX6_init_0 1 rfl rfl)
theorem dX6_init_4 : decode cX6_init 4 = .ok (.aload_n 0, 1) := dk_42 (dk_at dksX6_init_0 4 rfl rfl)
theorem dX6_init_5 : decode cX6_init 5 = .ok (.bipush 7, 2) := dk_16 7 (dk_at dksX6_init_0 5 rfl rfl)
theorem dX6_init_7 : decode cX6_init 7 = .ok (.newarray .int, 2) := dk_188_10 (dk_at dksX6_init_0 7 rfl rfl)
theorem dX6_init_9 : decode cX6_init 9 = .ok (.putfield 7, 3) := dk_181 0 7 (dk_at dksX6_init_0 9 rfl rfl)
theorem dX6_init_12 : decode cX6_init 12 = .ok (.aload_n 0, 1) := dk_42 (dk_at dksX6_init_0 12 rfl rfl)
theorem dX6_init_13 : decode cX6_init 13 = .ok (.bipush 21, 2) := dk_16 21 (dk_at dksX6_init_0 13 rfl rfl)
theorem dX6_init_15 : decode cX6_init 15 = .ok (.newarray .int, 2) := dk_188_10 (dk_at dksX6_init_0 15 rfl rfl)
theorem dX6_init_17 : decode cX6_init 17 = .ok (.putfield 13, 3) := dk_181 0 13 (dk_at dksX6_init_0 17 rfl rfl)
theorem dX6_init_20 : decode cX6_init 20 = .ok (.aload_n 0, 1) := dk_42 (dk_at dksX6_init_0 20 rfl rfl)
theorem dX6_init_21 : decode cX6_init 21 = .ok (.bipush 21, 2) := dk_16 21 (dk_at dksX6_init_0 21 rfl rfl)
theorem dX6_init_23 : decode cX6_init 23 = .ok (.newarray .int, 2) := dk_188_10 (dk_at dksX6_init_1 0 rfl rfl)
theorem dX6_init_25 : decode cX6_init 25 = .ok (.putfield 16, 3) := dk_181 0 16 (dk_at dksX6_init_1 2 rfl rfl)
theorem dX6_init_28 : decode cX6_init 28 = .ok (.aload_n 0, 1) := dk_42 (dk_at dksX6_init_1 5 rfl rfl)
theorem dX6_init_29 : decode cX6_init 29 = .ok (.bipush 21, 2) := dk_16 21 (dk_at dksX6_init_1 6 rfl rfl)
theorem dX6_init_31 : decode cX6_init 31 = .ok (.newarray .int, 2) := dk_188_10 (dk_at dksX6_init_1 8 rfl rfl)
theorem dX6_init_33 : decode cX6_init 33 = .ok (.putfield 19, 3) := dk_181 0 19 (dk_at dksX6_init_1 10 rfl rfl)
theorem dX6_init_36 : decode cX6_init 36 = .ok (.aload_n 0, 1) := dk_42 (dk_at dksX6_init_1 13 rfl rfl)
theorem dX6_init_37 : decode cX6_init 37 = .ok (.bipush 21, 2) := dk_16 21 (dk_at dksX6_init_1 14 rfl rfl)
theorem dX6_init_39 : decode cX6_init 39 = .ok (.newarray .int, 2) := dk_188_10 (dk_at dksX6_init_1 16 rfl rfl)
theorem dX6_init_41 : decode cX6_init 41 = .ok (.putfield 22, 3) := dk_181 0 22 (dk_at dksX6_init_1 18 rfl rfl)
theorem dX6_init_44 : decode cX6_init 44 = .ok (.aload_n 0, 1) := dk_42 (dk_at dksX6_init_1 21 rfl rfl)
theorem dX6_init_45 : decode cX6_init 45 = .ok (.bipush 21, 2) := dk_16 21 (dk_at dksX6_init_1 22 rfl rfl)
theorem dX6_init_47 : decode cX6_init 47 = .ok (.newarray .int, 2) := dk_188_10 (dk_at dksX6_init_2 0 rfl rfl)
theorem dX6_init_49 : decode cX6_init 49 = .ok (.putfield 25, 3) := dk_181 0 25 (dk_at dksX6_init_2 2 rfl rfl)
theorem dX6_init_52 : decode cX6_init 52 = .ok (.aload_n 0, 1) := dk_42 (dk_at dksX6_init_2 5 rfl rfl)
theorem dX6_init_53 : decode cX6_init 53 = .ok (.bipush 25, 2) := dk_16 25 (dk_at dksX6_init_2 6 rfl rfl)
theorem dX6_init_55 : decode cX6_init 55 = .ok (.newarray .int, 2) := dk_188_10 (dk_at dksX6_init_2 8 rfl rfl)
theorem dX6_init_57 : decode cX6_init 57 = .ok (.putfield 28, 3) := dk_181 0 28 (dk_at dksX6_init_2 10 rfl rfl)
theorem dX6_init_60 : decode cX6_init 60 = .ok (.aload_n 0, 1) := dk_42 (dk_at dksX6_init_2 13 rfl rfl)
theorem dX6_init_61 : decode cX6_init 61 = .ok (.bipush 25, 2) := dk_16 25 (dk_at dksX6_init_2 14 rfl rfl)
theorem dX6_init_63 : decode cX6_init 63 = .ok (.newarray .int, 2) := dk_188_10 (dk_at dksX6_init_2 16 rfl rfl)
theorem dX6_init_65 : decode cX6_init 65 = .ok (.putfield 31, 3) := dk_181 0 31 (dk_at dksX6_init_2 18 rfl rfl)
theorem dX6_init_68 : decode cX6_init 68 = .ok (.aload_n 0, 1) := dk_42 (dk_at dksX6_init_2 21 rfl rfl)
theorem dX6_init_69 : decode cX6_init 69 = .ok (.bipush 25, 2) := dk_16 25 (dk_at dksX6_init_2 22 rfl rfl)
theorem dX6_init_71 : decode cX6_init 71 = .ok (.newarray .int, 2) := dk_188_10 (dk_at dksX6_init_3 0 rfl rfl)
theorem dX6_init_73 : decode cX6_init 73 = .ok (.putfield 34, 3) := dk_181 0 34 (dk_at dksX6_init_3 2 rfl rfl)
theorem dX6_init_76 : decode cX6_init 76 = .ok (.aload_n 0, 1) := dk_42 (dk_at dksX6_init_3 5 rfl rfl)
theorem dX6_init_77 : decode cX6_init 77 = .ok (.bipush 25, 2) := dk_16 25 (dk_at dksX6_init_3 6 rfl rfl)
theorem dX6_init_79 : decode cX6_init 79 = .ok (.newarray .int, 2) := dk_188_10 (dk_at dksX6_init_3 8 rfl rfl)
theorem dX6_init_81 : decode cX6_init 81 = .ok (.putfield 37, 3) := dk_181 0 37 (dk_at dksX6_init_3 10 rfl rfl)
theorem dX6_init_84 : decode cX6_init 84 = .ok (.aload_n 0, 1) := dk_42 (dk_at dksX6_init_3 13 rfl rfl)
theorem dX6_init_85 : decode cX6_init 85 = .ok (.bipush 25, 2) := dk_16 25 (dk_at dksX6_init_3 14 rfl rfl)
theorem dX6_init_87 : decode cX6_init 87 = .ok (.newarray .int, 2) := dk_188_10 (dk_at dksX6_init_3 16 rfl rfl)
theorem dX6_init_89 : decode cX6_init 89 = .ok (.putfield 40, 3) := dk_181 0 40 (dk_at dksX6_init_3 18 rfl rfl)
theorem dX6_init_92 : decode cX6_init 92 = .ok (.aload_n 0, 1) := dk_42 (dk_at dksX6_init_3 21 rfl rfl)
theorem dX6_init_93 : decode cX6_init 93 = .ok (.bipush 25, 2) := dk_16 25 (dk_at dksX6_init_3 22 rfl rfl)
theorem dX6_init_95 : decode cX6_init 95 = .ok (.newarray .int, 2) := dk_188_10 (dk_at dksX6_init_4 0 rfl rfl)
theorem dX6_init_97 : decode cX6_init 97 = .ok (.putfield 43, 3) := dk_181 0 43 (dk_at dksX6_init_4 2 rfl rfl)
theorem dX6_init_100 : decode cX6_init 100 = .ok (.aload_n 0, 1) := dk_42 (dk_at dksX6_init_4 5 rfl rfl)
theorem dX6_init_101 : decode cX6_init 101 = .ok (.bipush 25, 2) := dk_16 25 (dk_at dksX6_init_4 6 rfl rfl)
theorem dX6_init_103 : decode cX6_init 103 = .ok (.newarray .int, 2) := dk_188_10 (dk_at dksX6_init_4 8 rfl rfl)
theorem dX6_init_105 : decode cX6_init 105 = .ok (.putfield 46, 3) := dk_181 0 46 (dk_at dksX6_init_4 10 rfl rfl)
theorem dX6_init_108 : decode cX6_init 108 = .ok (.aload_n 0, 1) := dk_42 (dk_at dksX6_init_4 13 rfl rfl)
theorem dX6_init_109 : decode cX6_init 109 = .ok (.bipush 25, 2) := dk_16 25 (dk_at dksX6_init_4 14 rfl rfl)
theorem dX6_init_111 : decode cX6_init 111 = .ok (.newarray .int, 2) := dk_188_10 (dk_at dksX6_init_4 16 rfl rfl)
theorem dX6_init_113 : decode cX6_init 113 = .ok (.putfield 49, 3) := dk_181 0 49 (dk_at dksX6_init_4 18 rfl rfl)
theorem dX6_init_116 : decode cX6_init 116 = .ok (.aload_n 0, 1) := dk_42 (dk_at dksX6_init_4 21 rfl rfl)
theorem dX6_init_117 : decode cX6_init 117 = .ok (.bipush 25, 2) := dk_16 25 (dk_at dksX6_init_4 22 rfl rfl)
theorem dX6_init_119 : decode cX6_init 119 = .ok (.newarray .int, 2) := dk_188_10 (dk_at dksX6_init_5 0 rfl rfl)
theorem dX6_init_121 : decode cX6_init 121 = .ok (.putfield 52, 3) := dk_181 0 52 (dk_at dksX6_init_5 2 rfl rfl)
theorem dX6_init_124 : decode cX6_init 124 = .ok (.aload_n 0, 1) := dk_42 (dk_at dksX6_init_5 5 rfl rfl)
theorem dX6_init_125 : decode cX6_init 125 = .ok (.bipush 33, 2) := dk_16 33 (dk_at dksX6_init_5 6 rfl rfl)
theorem dX6_init_127 : decode cX6_init 127 = .ok (.newarray .int, 2) := dk_188_10 (dk_at dksX6_init_5 8 rfl rfl)
theorem dX6_init_129 : decode cX6_init 129 = .ok (.putfield 55, 3) := dk_181 0 55 (dk_at dksX6_init_5 10 rfl rfl)
theorem dX6_init_132 : decode cX6_init 132 = .ok (.aload_n 0, 1) := dk_42 (dk_at dksX6_init_5 13 rfl rfl)
theorem dX6_init_133 : decode cX6_init 133 = .ok (.bipush 33, 2) := dk_16 33 (dk_at dksX6_init_5 14 rfl rfl)
theorem dX6_init_135 : decode cX6_init 135 = .ok (.newarray .int, 2) := dk_188_10 (dk_at dksX6_init_5 16 rfl rfl)
theorem dX6_init_137 : decode cX6_init 137 = .ok (.putfield 58, 3) := dk_181 0 58 (dk_at dksX6_init_5 18 rfl rfl)
theorem dX6_init_140 : decode cX6_init 140 = .ok (.aload_n 0, 1) := dk_42 (dk_at dksX6_init_5 21 rfl rfl)
theorem dX6_init_141 : decode cX6_init 141 = .ok (.bipush 33, 2) := dk_16 33 (dk_at dksX6_init_5 22 rfl rfl)
theorem dX6_init_143 : decode cX6_init 143 = .ok (.newarray .int, 2) := dk_188_10 (dk_at dksX6_init_6 0 rfl rfl)
theorem dX6_init_145 : decode cX6_init 145 = .ok (.putfield 61, 3) := dk_181 0 61 (dk_at dksX6_init_6 2 rfl rfl)
theorem dX6_init_148 : decode cX6_init 148 = .ok (.aload_n 0, 1) := dk_42 (dk_at dksX6_init_6 5 rfl rfl)
theorem dX6_init_149 : decode cX6_init 149 = .ok (.bipush 33, 2) := dk_16 33 (dk_at dksX6_init_6 6 rfl rfl)
theorem dX6_init_151 : decode cX6_init 151 = .ok (.newarray .int, 2) := dk_188_10 (dk_at dksX6_init_6 8 rfl rfl)
theorem dX6_init_153 : decode cX6_init 153 = .ok (.putfield 64, 3) := dk_181 0 64 (dk_at dksX6_init_6 10 rfl rfl)
theorem dX6_init_156 : decode cX6_init 156 = .ok (.aload_n 0, 1) := dk_42 (dk_at dksX6_init_6 13 rfl rfl)
theorem dX6_init_157 : decode cX6_init 157 = .ok (.sipush 16384, 3) := dk_17 64 0 (dk_at dksX6_init_6 14 rfl rfl)
theorem dX6_init_160 : decode cX6_init 160 = .ok (.newarray .int, 2) := dk_188_10 (dk_at dksX6_init_6 17 rfl rfl)
theorem dX6_init_162 : decode cX6_init 162 = .ok (.putfield 67, 3) := dk_181 0 67 (dk_at dksX6_init_6 19 rfl rfl)
theorem dX6_init_165 : decode cX6_init 165 = .ok (.aload_n 0, 1) := dk_42 (dk_at dksX6_init_6 22 rfl rfl)
theorem dX6_init_166 : decode cX6_init 166 = .ok (.sipush 16384, 3) := dk_17 64 0 (dk_at dksX6_init_7 0 rfl rfl)
theorem dX6_init_169 : decode cX6_init 169 = .ok (.newarray .int, 2) := dk_188_10 (dk_at dksX6_init_7 3 rfl rfl)
theorem dX6_init_171 : decode cX6_init 171 = .ok (.putfield 70, 3) := dk_181 0 70 (dk_at dksX6_init_7 5 rfl rfl)
theorem dX6_init_174 : decode cX6_init 174 = .ok (.aload_n 0, 1) := dk_42 (dk_at dksX6_init_7 8 rfl rfl)
theorem dX6_init_175 : decode cX6_init 175 = .ok (.sipush 400, 3) := dk_17 1 144 (dk_at dksX6_init_7 9 rfl rfl)
theorem dX6_init_178 : decode cX6_init 178 = .ok (.newarray .int, 2) := dk_188_10 (dk_at dksX6_init_7 12 rfl rfl)
theorem dX6_init_180 : decode cX6_init 180 = .ok (.putfield 73, 3) := dk_181 0 73 (dk_at dksX6_init_7 14 rfl rfl)
theorem dX6_init_183 : decode cX6_init 183 = .ok (.aload_n 0, 1) := dk_42 (dk_at dksX6_init_7 17 rfl rfl)
theorem dX6_init_184 : decode cX6_init 184 = .ok (.sipush 400, 3) := dk_17 1 144 (dk_at dksX6_init_7 18 rfl rfl)
theorem dX6_init_187 : decode cX6_init 187 = .ok (.newarray .int, 2) := dk_188_10 (dk_at dksX6_init_7 21 rfl rfl)
theorem dX6_init_189 : decode cX6_init 189 = .ok (.putfield 76, 3) := dk_181 0 76 (dk_at dksX6_init_8 0 rfl rfl)
theorem dX6_init_192 : decode cX6_init 192 = .ok (.aload_n 0, 1) := dk_42 (dk_at dksX6_init_8 3 rfl rfl)
theorem dX6_init_193 : decode cX6_init 193 = .ok (.sipush 400, 3) := dk_17 1 144 (dk_at dksX6_init_8 4 rfl rfl)
theorem dX6_init_196 : decode cX6_init 196 = .ok (.newarray .int, 2) := dk_188_10 (dk_at dksX6_init_8 7 rfl rfl)
theorem dX6_init_198 : decode cX6_init 198 = .ok (.putfield 79, 3) := dk_181 0 79 (dk_at dksX6_init_8 9 rfl rfl)
theorem dX6_init_201 : decode cX6_init 201 = .ok (.aload_n 0, 1) := dk_42 (dk_at dksX6_init_8 12 rfl rfl)
theorem dX6_init_202 : decode cX6_init 202 = .ok (.sipush 400, 3) := dk_17 1 144 (dk_at dksX6_init_8 13 rfl rfl)
theorem dX6_init_205 : decode cX6_init 205 = .ok (.newarray .int, 2) := dk_188_10 (dk_at dksX6_init_8 16 rfl rfl)
theorem dX6_init_207 : decode cX6_init 207 = .ok (.putfield 82, 3) := dk_181 0 82 (dk_at dksX6_init_8 18 rfl rfl)
theorem dX6_init_210 : decode cX6_init 210 = .ok (.aload_n 0, 1) := dk_42 (dk_at dksX6_init_8 21 rfl rfl)
theorem dX6_init_211 : decode cX6_init 211 = .ok (.sipush 400, 3) := dk_17 1 144 (dk_at dksX6_init_9 0 rfl rfl)
theorem dX6_init_214 : decode cX6_init 214 = .ok (.newarray .int, 2) := dk_188_10 (dk_at dksX6_init_9 3 rfl rfl)
theorem dX6_init_216 : decode cX6_init 216 = .ok (.putfield 85, 3) := dk_181 0 85 (dk_at dksX6_init_9 5 rfl rfl)
theorem dX6_init_219 : decode cX6_init 219 = .ok (.aload_n 0, 1) := dk_42 (dk_at dksX6_init_9 8 rfl rfl)
theorem dX6_init_220 : decode cX6_init 220 = .ok (.sipush 400, 3) := dk_17 1 144 (dk_at dksX6_init_9 9 rfl rfl)
theorem dX6_init_223 : decode cX6_init 223 = .ok (.newarray .int, 2) := dk_188_10 (dk_at dksX6_init_9 12 rfl rfl)
theorem dX6_init_225 : decode cX6_init 225 = .ok (.putfield 88, 3) := dk_181 0 88 (dk_at dksX6_init_9 14 rfl rfl)
theorem dX6_init_228 : decode cX6_init 228 = .ok (.aload_n 0, 1) := dk_42 (dk_at dksX6_init_9 17 rfl rfl)
theorem dX6_init_229 : decode cX6_init 229 = .ok (.sipush 400, 3) := dk_17 1 144 (dk_at dksX6_init_9 18 rfl rfl)
theorem dX6_init_232 : decode cX6_init 232 = .ok (.newarray .int, 2) := dk_188_10 (dk_at dksX6_init_9 21 rfl rfl)
theorem dX6_init_234 : decode cX6_init 234 = .ok (.putfield 91, 3) := dk_181 0 91 (dk_at dksX6_init_10 0 rfl rfl)
theorem dX6_init_237 : decode cX6_init 237 = .ok (.aload_n 0, 1) := dk_42 (dk_at dksX6_init_10 3 rfl rfl)
theorem dX6_init_238 : decode cX6_init 238 = .ok (.bipush 96, 2) := dk_16 96 (dk_at dksX6_init_10 4 rfl rfl)
theorem dX6_init_240 : decode cX6_init 240 = .ok (.newarray .int, 2) := dk_188_10 (dk_at dksX6_init_10 6 rfl rfl)
theorem dX6_init_242 : decode cX6_init 242 = .ok (.putfield 94, 3) := dk_181 0 94 (dk_at dksX6_init_10 8 rfl rfl)
theorem dX6_init_245 : decode cX6_init 245 = .ok (.aload_n 0, 1) := dk_42 (dk_at dksX6_init_10 11 rfl rfl)
theorem dX6_init_246 : decode cX6_init 246 = .ok (.bipush 100, 2) := dk_16 100 (dk_at dksX6_init_10 12 rfl rfl)
theorem dX6_init_248 : decode cX6_init 248 = .ok (.newarray .int, 2) := dk_188_10 (dk_at dksX6_init_10 14 rfl rfl)
theorem dX6_init_250 : decode cX6_init 250 = .ok (.putfield 97, 3) := dk_181 0 97 (dk_at dksX6_init_10 16 rfl rfl)
theorem dX6_init_253 : decode cX6_init 253 = .ok (.aload_n 0, 1) := dk_42 (dk_at dksX6_init_10 19 rfl rfl)
theorem dX6_init_254 : decode cX6_init 254 = .ok (.bipush 100, 2) := dk_16 100 (dk_at dksX6_init_10 20 rfl rfl)
theorem dX6_init_256 : decode cX6_init 256 = .ok (.newarray .int, 2) := dk_188_10 (dk_at dksX6_init_10 22 rfl rfl)
theorem dX6_init_258 : decode cX6_init 258 = .ok (.putfield 100, 3) := dk_181 0 100 (dk_at dksX6_init_11 0 rfl rfl)
theorem dX6_init_261 : decode cX6_init 261 = .ok (.aload_n 0, 1) := dk_42 (dk_at dksX6_init_11 3 rfl rfl)
theorem dX6_init_262 : decode cX6_init 262 = .ok (.bipush 100, 2) := dk_16 100 (dk_at dksX6_init_11 4 rfl rfl)
theorem dX6_init_264 : decode cX6_init 264 = .ok (.newarray .int, 2) := dk_188_10 (dk_at dksX6_init_11 6 rfl rfl)
theorem dX6_init_266 : decode cX6_init 266 = .ok (.putfield 103, 3) := dk_181 0 103 (dk_at dksX6_init_11 8 rfl rfl)
theorem dX6_init_269 : decode cX6_init 269 = .ok (.aload_n 0, 1) := dk_42 (dk_at dksX6_init_11 11 rfl rfl)
theorem dX6_init_270 : decode cX6_init 270 = .ok (.bipush 100, 2) := dk_16 100 (dk_at dksX6_init_11 12 rfl rfl)
theorem dX6_init_272 : decode cX6_init 272 = .ok (.newarray .int, 2) := dk_188_10 (dk_at dksX6_init_11 14 rfl rfl)
theorem dX6_init_274 : decode cX6_init 274 = .ok (.putfield 106, 3) := dk_181 0 106 (dk_at dksX6_init_11 16 rfl rfl)
theorem dX6_init_277 : decode cX6_init 277 = .ok (.aload_n 0, 1) := dk_42 (dk_at dksX6_init_11 19 rfl rfl)
theorem dX6_init_278 : decode cX6_init 278 = .ok (.bipush 100, 2) := dk_16 100 (dk_at dksX6_init_11 20 rfl rfl)
theorem dX6_init_280 : decode cX6_init 280 = .ok (.newarray .int, 2) := dk_188_10 (dk_at dksX6_init_11 22 rfl rfl)
theorem dX6_init_282 : decode cX6_init 282 = .ok (.putfield 109, 3) := dk_181 0 109 (dk_at dksX6_init_12 0 rfl rfl)
theorem dX6_init_285 : decode cX6_init 285 = .ok (.aload_n 0, 1) := dk_42 (dk_at dksX6_init_12 3 rfl rfl)
theorem dX6_init_286 : decode cX6_init 286 = .ok (.sipush 1400, 3) := dk_17 5 120 (dk_at dksX6_init_12 4 rfl rfl)
theorem dX6_init_289 : decode cX6_init 289 = .ok (.newarray .int, 2) := dk_188_10 (dk_at dksX6_init_12 7 rfl rfl)
theorem dX6_init_291 : decode cX6_init 291 = .ok (.putfield 112, 3) := dk_181 0 112 (dk_at dksX6_init_12 9 rfl rfl)
theorem dX6_init_294 : decode cX6_init 294 = .ok (.aload_n 0, 1) := dk_42 (dk_at dksX6_init_12 12 rfl rfl)
theorem dX6_init_295 : decode cX6_init 295 = .ok (.bipush 32, 2) := dk_16 32 (dk_at dksX6_init_12 13 rfl rfl)
theorem dX6_init_297 : decode cX6_init 297 = .ok (.newarray .int, 2) := dk_188_10 (dk_at dksX6_init_12 15 rfl rfl)
theorem dX6_init_299 : decode cX6_init 299 = .ok (.putfield 115, 3) := dk_181 0 115 (dk_at dksX6_init_12 17 rfl rfl)
theorem dX6_init_302 : decode cX6_init 302 = .ok (.aload_n 0, 1) := dk_42 (dk_at dksX6_init_12 20 rfl rfl)
theorem dX6_init_303 : decode cX6_init 303 = .ok (.iconst 1, 1) := dk_4 (dk_at dksX6_init_12 21 rfl rfl)
theorem dX6_init_304 : decode cX6_init 304 = .ok (.putfield 118, 3) := dk_181 0 118 (dk_at dksX6_init_13 0 rfl rfl)
theorem dX6_init_307 : decode cX6_init 307 = .ok (.aload_n 0, 1) := dk_42 (dk_at dksX6_init_13 3 rfl rfl)
theorem dX6_init_308 : decode cX6_init 308 = .ok (.iconst 1, 1) := dk_4 (dk_at dksX6_init_13 4 rfl rfl)
theorem dX6_init_309 : decode cX6_init 309 = .ok (.putfield 122, 3) := dk_181 0 122 (dk_at dksX6_init_13 5 rfl rfl)
theorem dX6_init_312 : decode cX6_init 312 = .ok (.aload_n 0, 1) := dk_42 (dk_at dksX6_init_13 8 rfl rfl)
theorem dX6_init_313 : decode cX6_init 313 = .ok (.getfield 28, 3) := dk_180 0 28 (dk_at dksX6_init_13 9 rfl rfl)
theorem dX6_init_316 : decode cX6_init 316 = .ok (.iconst 0, 1) := dk_3 (dk_at dksX6_init_13 12 rfl rfl)
theorem dX6_init_317 : decode cX6_init 317 = .ok (.bipush 42, 2) := dk_16 42 (dk_at dksX6_init_13 13 rfl rfl)
theorem dX6_init_319 : decode cX6_init 319 = .ok (.iastore, 1) := dk_79 (dk_at dksX6_init_13 15 rfl rfl)
theorem dX6_init_320 : decode cX6_init 320 = .ok (.aload_n 0, 1) := dk_42 (dk_at dksX6_init_13 16 rfl rfl)
theorem dX6_init_321 : decode cX6_init 321 = .ok (.invokevirtual 125, 3) := dk_182 0 125 (dk_at dksX6_init_13 17 rfl rfl)
theorem dX6_init_324 : decode cX6_init 324 = .ok (.return_, 1) := dk_177 (dk_at dksX6_init_13 20 rfl rfl)
abbrev cX6_measures : ByteArray := prog_25_method_9_code
def yX6_measures : MethodName := ⟨RX6, "measures", "()V"⟩
def dkwX6_measures_6 : List UInt8 := [167, 255, 196, 132, 1, 1, 167, 255, 176, 177]
abbrev dktX6_measures_6 : List UInt8 := dkwX6_measures_6 ++ []
def dkwX6_measures_5 : List UInt8 := [167, 0, 9, 42, 180, 0, 19, 28, 46, 96, 79, 28, 42, 180, 0, 22, 28, 46, 96, 61, 132, 3, 1]
abbrev dktX6_measures_5 : List UInt8 := dkwX6_measures_5 ++ dktX6_measures_6
def dkwX6_measures_4 : List UInt8 := [16, 10, 42, 180, 0, 25, 27, 46, 104, 42, 180, 0, 13, 27, 46, 6, 160, 0, 10, 16, 6, 29, 96]
abbrev dktX6_measures_4 : List UInt8 := dkwX6_measures_4 ++ dktX6_measures_5
def dkwX6_measures_3 : List UInt8 := [162, 0, 78, 27, 4, 96, 61, 3, 62, 29, 42, 27, 182, 0, 134, 162, 0, 57, 42, 180, 0, 25, 28]
abbrev dktX6_measures_3 : List UInt8 := dkwX6_measures_3 ++ dktX6_measures_4
def dkwX6_measures_2 : List UInt8 := [27, 100, 79, 132, 1, 255, 167, 255, 210, 42, 180, 0, 25, 3, 3, 79, 3, 60, 27, 42, 180, 0, 118]
abbrev dktX6_measures_2 : List UInt8 := dkwX6_measures_2 ++ dktX6_measures_3
def dkwX6_measures_1 : List UInt8 := [162, 0, 18, 28, 42, 180, 0, 22, 28, 46, 96, 61, 132, 3, 1, 167, 255, 235, 42, 180, 0, 22, 27, 28]
abbrev dktX6_measures_1 : List UInt8 := dkwX6_measures_1 ++ dktX6_measures_2
def dkwX6_measures_0 : List UInt8 := [42, 180, 0, 118, 4, 100, 60, 27, 155, 0, 48, 27, 4, 96, 61, 3, 62, 29, 42, 27, 182, 0, 134]
abbrev dktX6_measures_0 : List UInt8 := dkwX6_measures_0 ++ dktX6_measures_1
theorem dksX6_measures_0 : cX6_measures.data.toList.drop 0 = dktX6_measures_0 := by decide +kernel
theorem dksX6_measures_1 : cX6_measures.data.toList.drop 23 = dktX6_measures_1 := dk_seg dksX6_measures_0 23 rfl rfl
theorem dksX6_measures_2 : cX6_measures.data.toList.drop 47 = dktX6_measures_2 := dk_seg dksX6_measures_1 24 rfl rfl
theorem dksX6_measures_3 : cX6_measures.data.toList.drop 70 = dktX6_measures_3 := dk_seg dksX6_measures_2 23 rfl rfl
theorem dksX6_measures_4 : cX6_measures.data.toList.drop 93 = dktX6_measures_4 := dk_seg dksX6_measures_3 23 rfl rfl
theorem dksX6_measures_5 : cX6_measures.data.toList.drop 116 = dktX6_measures_5 := dk_seg dksX6_measures_4 23 rfl rfl
theorem dksX6_measures_6 : cX6_measures.data.toList.drop 139 = dktX6_measures_6 := dk_seg dksX6_measures_5 23 rfl rfl
theorem dX6_measures_0 : decode cX6_measures 0 = .ok (.aload_n 0, 1) := dk_42 (dk_at dksX6_measures_0 0 rfl rfl)
theorem dX6_measures_1 : decode cX6_measures 1 = .ok (.getfield 118, 3) := dk_180 0 118 (dk_at dksX6_measures_0 1 rfl rfl)
theorem dX6_measures_4 : decode cX6_measures 4 = .ok (.iconst 1, 1) := dk_4 (dk_at dksX6_measures_0 4 rfl rfl)
theorem dX6_measures_5 : decode cX6_measures 5 = .ok (.isub, 1) := dk_100 (dk_at dksX6_measures_0 5 rfl rfl)
theorem dX6_measures_6 : decode cX6_measures 6 = .ok (.istore_n 1, 1) := dk_60 (dk_at dksX6_measures_0 6 rfl rfl)
theorem dX6_measures_7 : decode cX6_measures 7 = .ok (.iload_n 1, 1) := dk_27 (dk_at dksX6_measures_0 7 rfl rfl)
theorem dX6_measures_8 : decode cX6_measures 8 = .ok (.ifCond .lt 48, 3) := dk_155 0 48 (dk_at dksX6_measures_0 8 rfl rfl)
theorem dX6_measures_11 : decode cX6_measures 11 = .ok (.iload_n 1, 1) := dk_27 (dk_at dksX6_measures_0 11 rfl rfl)
theorem dX6_measures_12 : decode cX6_measures 12 = .ok (.iconst 1, 1) := dk_4 (dk_at dksX6_measures_0 12 rfl rfl)
theorem dX6_measures_13 : decode cX6_measures 13 = .ok (.iadd, 1) := dk_96 (dk_at dksX6_measures_0 13 rfl rfl)
theorem dX6_measures_14 : decode cX6_measures 14 = .ok (.istore_n 2, 1) := dk_61 (dk_at dksX6_measures_0 14 rfl rfl)
theorem dX6_measures_15 : decode cX6_measures 15 = .ok (.iconst 0, 1) := dk_3 (dk_at dksX6_measures_0 15 rfl rfl)
theorem dX6_measures_16 : decode cX6_measures 16 = .ok (.istore_n 3, 1) := dk_62 (dk_at dksX6_measures_0 16 rfl rfl)
theorem dX6_measures_17 : decode cX6_measures 17 = .ok (.iload_n 3, 1) := dk_29 (dk_at dksX6_measures_0 17 rfl rfl)
theorem dX6_measures_18 : decode cX6_measures 18 = .ok (.aload_n 0, 1) := dk_42 (dk_at dksX6_measures_0 18 rfl rfl)
theorem dX6_measures_19 : decode cX6_measures 19 = .ok (.iload_n 1, 1) := dk_27 (dk_at dksX6_measures_0 19 rfl rfl)
theorem dX6_measures_20 : decode cX6_measures 20 = .ok (.invokevirtual 134, 3) := dk_182 0 134 (dk_at dksX6_measures_0 20 rfl rfl)
theorem dX6_measures_23 : decode cX6_measures 23 = .ok (.if_icmp .ge 18, 3) := dk_162 0 18 (dk_at dksX6_measures_1 0 rfl rfl)
theorem dX6_measures_26 : decode cX6_measures 26 = .ok (.iload_n 2, 1) := dk_28 (dk_at dksX6_measures_1 3 rfl rfl)
theorem dX6_measures_27 : decode cX6_measures 27 = .ok (.aload_n 0, 1) := dk_42 (dk_at dksX6_measures_1 4 rfl rfl)
theorem dX6_measures_28 : decode cX6_measures 28 = .ok (.getfield 22, 3) := dk_180 0 22 (dk_at dksX6_measures_1 5 rfl rfl)
theorem dX6_measures_31 : decode cX6_measures 31 = .ok (.iload_n 2, 1) := dk_28 (dk_at dksX6_measures_1 8 rfl rfl)
theorem dX6_measures_32 : decode cX6_measures 32 = .ok (.iaload, 1) := dk_46 (dk_at dksX6_measures_1 9 rfl rfl)
theorem dX6_measures_33 : decode cX6_measures 33 = .ok (.iadd, 1) := dk_96 (dk_at dksX6_measures_1 10 rfl rfl)
theorem dX6_measures_34 : decode cX6_measures 34 = .ok (.istore_n 2, 1) := dk_61 (dk_at dksX6_measures_1 11 rfl rfl)
theorem dX6_measures_35 : decode cX6_measures 35 = .ok (.iinc 3 1, 3) := dk_132 3 1 (dk_at dksX6_measures_1 12 rfl rfl)
theorem dX6_measures_38 : decode cX6_measures 38 = .ok (.goto (-21), 3) := dk_167 255 235 (dk_at dksX6_measures_1 15 rfl rfl)
theorem dX6_measures_41 : decode cX6_measures 41 = .ok (.aload_n 0, 1) := dk_42 (dk_at dksX6_measures_1 18 rfl rfl)
theorem dX6_measures_42 : decode cX6_measures 42 = .ok (.getfield 22, 3) := dk_180 0 22 (dk_at dksX6_measures_1 19 rfl rfl)
theorem dX6_measures_45 : decode cX6_measures 45 = .ok (.iload_n 1, 1) := dk_27 (dk_at dksX6_measures_1 22 rfl rfl)
theorem dX6_measures_46 : decode cX6_measures 46 = .ok (.iload_n 2, 1) := dk_28 (dk_at dksX6_measures_1 23 rfl rfl)
theorem dX6_measures_47 : decode cX6_measures 47 = .ok (.iload_n 1, 1) := dk_27 (dk_at dksX6_measures_2 0 rfl rfl)
theorem dX6_measures_48 : decode cX6_measures 48 = .ok (.isub, 1) := dk_100 (dk_at dksX6_measures_2 1 rfl rfl)
theorem dX6_measures_49 : decode cX6_measures 49 = .ok (.iastore, 1) := dk_79 (dk_at dksX6_measures_2 2 rfl rfl)
theorem dX6_measures_50 : decode cX6_measures 50 = .ok (.iinc 1 (-1), 3) := dk_132 1 255 (dk_at dksX6_measures_2 3 rfl rfl)
theorem dX6_measures_53 : decode cX6_measures 53 = .ok (.goto (-46), 3) := dk_167 255 210 (dk_at dksX6_measures_2 6 rfl rfl)
theorem dX6_measures_56 : decode cX6_measures 56 = .ok (.aload_n 0, 1) := dk_42 (dk_at dksX6_measures_2 9 rfl rfl)
theorem dX6_measures_57 : decode cX6_measures 57 = .ok (.getfield 25, 3) := dk_180 0 25 (dk_at dksX6_measures_2 10 rfl rfl)
theorem dX6_measures_60 : decode cX6_measures 60 = .ok (.iconst 0, 1) := dk_3 (dk_at dksX6_measures_2 13 rfl rfl)
theorem dX6_measures_61 : decode cX6_measures 61 = .ok (.iconst 0, 1) := dk_3 (dk_at dksX6_measures_2 14 rfl rfl)
theorem dX6_measures_62 : decode cX6_measures 62 = .ok (.iastore, 1) := dk_79 (dk_at dksX6_measures_2 15 rfl rfl)
theorem dX6_measures_63 : decode cX6_measures 63 = .ok (.iconst 0, 1) := dk_3 (dk_at dksX6_measures_2 16 rfl rfl)
theorem dX6_measures_64 : decode cX6_measures 64 = .ok (.istore_n 1, 1) := dk_60 (dk_at dksX6_measures_2 17 rfl rfl)
theorem dX6_measures_65 : decode cX6_measures 65 = .ok (.iload_n 1, 1) := dk_27 (dk_at dksX6_measures_2 18 rfl rfl)
theorem dX6_measures_66 : decode cX6_measures 66 = .ok (.aload_n 0, 1) := dk_42 (dk_at dksX6_measures_2 19 rfl rfl)
theorem dX6_measures_67 : decode cX6_measures 67 = .ok (.getfield 118, 3) := dk_180 0 118 (dk_at dksX6_measures_2 20 rfl rfl)
theorem dX6_measures_70 : decode cX6_measures 70 = .ok (.if_icmp .ge 78, 3) := dk_162 0 78 (dk_at dksX6_measures_3 0 rfl rfl)
theorem dX6_measures_73 : decode cX6_measures 73 = .ok (.iload_n 1, 1) := dk_27 (dk_at dksX6_measures_3 3 rfl rfl)
theorem dX6_measures_74 : decode cX6_measures 74 = .ok (.iconst 1, 1) := dk_4 (dk_at dksX6_measures_3 4 rfl rfl)
theorem dX6_measures_75 : decode cX6_measures 75 = .ok (.iadd, 1) := dk_96 (dk_at dksX6_measures_3 5 rfl rfl)
theorem dX6_measures_76 : decode cX6_measures 76 = .ok (.istore_n 2, 1) := dk_61 (dk_at dksX6_measures_3 6 rfl rfl)
theorem dX6_measures_77 : decode cX6_measures 77 = .ok (.iconst 0, 1) := dk_3 (dk_at dksX6_measures_3 7 rfl rfl)
theorem dX6_measures_78 : decode cX6_measures 78 = .ok (.istore_n 3, 1) := dk_62 (dk_at dksX6_measures_3 8 rfl rfl)
theorem dX6_measures_79 : decode cX6_measures 79 = .ok (.iload_n 3, 1) := dk_29 (dk_at dksX6_measures_3 9 rfl rfl)
theorem dX6_measures_80 : decode cX6_measures 80 = .ok (.aload_n 0, 1) := dk_42 (dk_at dksX6_measures_3 10 rfl rfl)
theorem dX6_measures_81 : decode cX6_measures 81 = .ok (.iload_n 1, 1) := dk_27 (dk_at dksX6_measures_3 11 rfl rfl)
theorem dX6_measures_82 : decode cX6_measures 82 = .ok (.invokevirtual 134, 3) := dk_182 0 134 (dk_at dksX6_measures_3 12 rfl rfl)
theorem dX6_measures_85 : decode cX6_measures 85 = .ok (.if_icmp .ge 57, 3) := dk_162 0 57 (dk_at dksX6_measures_3 15 rfl rfl)
theorem dX6_measures_88 : decode cX6_measures 88 = .ok (.aload_n 0, 1) := dk_42 (dk_at dksX6_measures_3 18 rfl rfl)
theorem dX6_measures_89 : decode cX6_measures 89 = .ok (.getfield 25, 3) := dk_180 0 25 (dk_at dksX6_measures_3 19 rfl rfl)
theorem dX6_measures_92 : decode cX6_measures 92 = .ok (.iload_n 2, 1) := dk_28 (dk_at dksX6_measures_3 22 rfl rfl)
theorem dX6_measures_93 : decode cX6_measures 93 = .ok (.bipush 10, 2) := dk_16 10 (dk_at dksX6_measures_4 0 rfl rfl)
theorem dX6_measures_95 : decode cX6_measures 95 = .ok (.aload_n 0, 1) := dk_42 (dk_at dksX6_measures_4 2 rfl rfl)
theorem dX6_measures_96 : decode cX6_measures 96 = .ok (.getfield 25, 3) := dk_180 0 25 (dk_at dksX6_measures_4 3 rfl rfl)
theorem dX6_measures_99 : decode cX6_measures 99 = .ok (.iload_n 1, 1) := dk_27 (dk_at dksX6_measures_4 6 rfl rfl)
theorem dX6_measures_100 : decode cX6_measures 100 = .ok (.iaload, 1) := dk_46 (dk_at dksX6_measures_4 7 rfl rfl)
theorem dX6_measures_101 : decode cX6_measures 101 = .ok (.imul, 1) := dk_104 (dk_at dksX6_measures_4 8 rfl rfl)
theorem dX6_measures_102 : decode cX6_measures 102 = .ok (.aload_n 0, 1) := dk_42 (dk_at dksX6_measures_4 9 rfl rfl)
theorem dX6_measures_103 : decode cX6_measures 103 = .ok (.getfield 13, 3) := dk_180 0 13 (dk_at dksX6_measures_4 10 rfl rfl)
theorem dX6_measures_106 : decode cX6_measures 106 = .ok (.iload_n 1, 1) := dk_27 (dk_at dksX6_measures_4 13 rfl rfl)
theorem dX6_measures_107 : decode cX6_measures 107 = .ok (.iaload, 1) := dk_46 (dk_at dksX6_measures_4 14 rfl rfl)
theorem dX6_measures_108 : decode cX6_measures 108 = .ok (.iconst 3, 1) := dk_6 (dk_at dksX6_measures_4 15 rfl rfl)
theorem dX6_measures_109 : decode cX6_measures 109 = .ok (.if_icmp .ne 10, 3) := dk_160 0 10 (dk_at dksX6_measures_4 16 rfl rfl)
theorem dX6_measures_112 : decode cX6_measures 112 = .ok (.bipush 6, 2) := dk_16 6 (dk_at dksX6_measures_4 19 rfl rfl)
theorem dX6_measures_114 : decode cX6_measures 114 = .ok (.iload_n 3, 1) := dk_29 (dk_at dksX6_measures_4 21 rfl rfl)
theorem dX6_measures_115 : decode cX6_measures 115 = .ok (.iadd, 1) := dk_96 (dk_at dksX6_measures_4 22 rfl rfl)
theorem dX6_measures_116 : decode cX6_measures 116 = .ok (.goto 9, 3) := dk_167 0 9 (dk_at dksX6_measures_5 0 rfl rfl)
theorem dX6_measures_119 : decode cX6_measures 119 = .ok (.aload_n 0, 1) := dk_42 (dk_at dksX6_measures_5 3 rfl rfl)
theorem dX6_measures_120 : decode cX6_measures 120 = .ok (.getfield 19, 3) := dk_180 0 19 (dk_at dksX6_measures_5 4 rfl rfl)
theorem dX6_measures_123 : decode cX6_measures 123 = .ok (.iload_n 2, 1) := dk_28 (dk_at dksX6_measures_5 7 rfl rfl)
theorem dX6_measures_124 : decode cX6_measures 124 = .ok (.iaload, 1) := dk_46 (dk_at dksX6_measures_5 8 rfl rfl)
theorem dX6_measures_125 : decode cX6_measures 125 = .ok (.iadd, 1) := dk_96 (dk_at dksX6_measures_5 9 rfl rfl)
theorem dX6_measures_126 : decode cX6_measures 126 = .ok (.iastore, 1) := dk_79 (dk_at dksX6_measures_5 10 rfl rfl)
theorem dX6_measures_127 : decode cX6_measures 127 = .ok (.iload_n 2, 1) := dk_28 (dk_at dksX6_measures_5 11 rfl rfl)
theorem dX6_measures_128 : decode cX6_measures 128 = .ok (.aload_n 0, 1) := dk_42 (dk_at dksX6_measures_5 12 rfl rfl)
theorem dX6_measures_129 : decode cX6_measures 129 = .ok (.getfield 22, 3) := dk_180 0 22 (dk_at dksX6_measures_5 13 rfl rfl)
theorem dX6_measures_132 : decode cX6_measures 132 = .ok (.iload_n 2, 1) := dk_28 (dk_at dksX6_measures_5 16 rfl rfl)
theorem dX6_measures_133 : decode cX6_measures 133 = .ok (.iaload, 1) := dk_46 (dk_at dksX6_measures_5 17 rfl rfl)
theorem dX6_measures_134 : decode cX6_measures 134 = .ok (.iadd, 1) := dk_96 (dk_at dksX6_measures_5 18 rfl rfl)
theorem dX6_measures_135 : decode cX6_measures 135 = .ok (.istore_n 2, 1) := dk_61 (dk_at dksX6_measures_5 19 rfl rfl)
theorem dX6_measures_136 : decode cX6_measures 136 = .ok (.iinc 3 1, 3) := dk_132 3 1 (dk_at dksX6_measures_5 20 rfl rfl)
theorem dX6_measures_139 : decode cX6_measures 139 = .ok (.goto (-60), 3) := dk_167 255 196 (dk_at dksX6_measures_6 0 rfl rfl)
theorem dX6_measures_142 : decode cX6_measures 142 = .ok (.iinc 1 1, 3) := dk_132 1 1 (dk_at dksX6_measures_6 3 rfl rfl)
theorem dX6_measures_145 : decode cX6_measures 145 = .ok (.goto (-80), 3) := dk_167 255 176 (dk_at dksX6_measures_6 6 rfl rfl)
theorem dX6_measures_148 : decode cX6_measures 148 = .ok (.return_, 1) := dk_177 (dk_at dksX6_measures_6 9 rfl rfl)
abbrev cX6_many : ByteArray := prog_25_method_8_code
def yX6_many : MethodName := ⟨RX6, "many", "(I)I"⟩
def dkwX6_many_0 : List UInt8 := [42, 27, 182, 0, 130, 153, 0, 12, 42, 180, 0, 16, 27, 46, 167, 0, 4, 3, 172]
abbrev dktX6_many_0 : List UInt8 := dkwX6_many_0 ++ []
theorem dksX6_many_0 : cX6_many.data.toList.drop 0 = dktX6_many_0 := by decide +kernel
theorem dX6_many_0 : decode cX6_many 0 = .ok (.aload_n 0, 1) := dk_42 (dk_at dksX6_many_0 0 rfl rfl)
theorem dX6_many_1 : decode cX6_many 1 = .ok (.iload_n 1, 1) := dk_27 (dk_at dksX6_many_0 1 rfl rfl)
theorem dX6_many_2 : decode cX6_many 2 = .ok (.invokevirtual 130, 3) := dk_182 0 130 (dk_at dksX6_many_0 2 rfl rfl)
theorem dX6_many_5 : decode cX6_many 5 = .ok (.ifCond .eq 12, 3) := dk_153 0 12 (dk_at dksX6_many_0 5 rfl rfl)
theorem dX6_many_8 : decode cX6_many 8 = .ok (.aload_n 0, 1) := dk_42 (dk_at dksX6_many_0 8 rfl rfl)
theorem dX6_many_9 : decode cX6_many 9 = .ok (.getfield 16, 3) := dk_180 0 16 (dk_at dksX6_many_0 9 rfl rfl)
theorem dX6_many_12 : decode cX6_many 12 = .ok (.iload_n 1, 1) := dk_27 (dk_at dksX6_many_0 12 rfl rfl)
theorem dX6_many_13 : decode cX6_many 13 = .ok (.iaload, 1) := dk_46 (dk_at dksX6_many_0 13 rfl rfl)
theorem dX6_many_14 : decode cX6_many 14 = .ok (.goto 4, 3) := dk_167 0 4 (dk_at dksX6_many_0 14 rfl rfl)
theorem dX6_many_17 : decode cX6_many 17 = .ok (.iconst 0, 1) := dk_3 (dk_at dksX6_many_0 17 rfl rfl)
theorem dX6_many_18 : decode cX6_many 18 = .ok (.ireturn, 1) := dk_172 (dk_at dksX6_many_0 18 rfl rfl)
abbrev cX6_isHolding : ByteArray := prog_25_method_7_code
def yX6_isHolding : MethodName := ⟨RX6, "isHolding", "(I)Z"⟩
def dkwX6_isHolding_1 : List UInt8 := [3, 172]
abbrev dktX6_isHolding_1 : List UInt8 := dkwX6_isHolding_1 ++ []
def dkwX6_isHolding_0 : List UInt8 := [42, 180, 0, 13, 27, 46, 5, 159, 0, 13, 42, 180, 0, 13, 27, 46, 6, 160, 0, 7, 4, 167, 0, 4]
abbrev dktX6_isHolding_0 : List UInt8 := dkwX6_isHolding_0 ++ dktX6_isHolding_1
theorem dksX6_isHolding_0 : cX6_isHolding.data.toList.drop 0 = dktX6_isHolding_0 := by decide +kernel
theorem dksX6_isHolding_1 : cX6_isHolding.data.toList.drop 24 = dktX6_isHolding_1 := dk_seg dksX6_isHolding_0 24 rfl rfl
theorem dX6_isHolding_0 : decode cX6_isHolding 0 = .ok (.aload_n 0, 1) := dk_42 (dk_at dksX6_isHolding_0 0 rfl rfl)
theorem dX6_isHolding_1 : decode cX6_isHolding 1 = .ok (.getfield 13, 3) := dk_180 0 13 (dk_at dksX6_isHolding_0 1 rfl rfl)
theorem dX6_isHolding_4 : decode cX6_isHolding 4 = .ok (.iload_n 1, 1) := dk_27 (dk_at dksX6_isHolding_0 4 rfl rfl)
theorem dX6_isHolding_5 : decode cX6_isHolding 5 = .ok (.iaload, 1) := dk_46 (dk_at dksX6_isHolding_0 5 rfl rfl)
theorem dX6_isHolding_6 : decode cX6_isHolding 6 = .ok (.iconst 2, 1) := dk_5 (dk_at dksX6_isHolding_0 6 rfl rfl)
theorem dX6_isHolding_7 : decode cX6_isHolding 7 = .ok (.if_icmp .eq 13, 3) := dk_159 0 13 (dk_at dksX6_isHolding_0 7 rfl rfl)
theorem dX6_isHolding_10 : decode cX6_isHolding 10 = .ok (.aload_n 0, 1) := dk_42 (dk_at dksX6_isHolding_0 10 rfl rfl)
theorem dX6_isHolding_11 : decode cX6_isHolding 11 = .ok (.getfield 13, 3) := dk_180 0 13 (dk_at dksX6_isHolding_0 11 rfl rfl)
theorem dX6_isHolding_14 : decode cX6_isHolding 14 = .ok (.iload_n 1, 1) := dk_27 (dk_at dksX6_isHolding_0 14 rfl rfl)
theorem dX6_isHolding_15 : decode cX6_isHolding 15 = .ok (.iaload, 1) := dk_46 (dk_at dksX6_isHolding_0 15 rfl rfl)
theorem dX6_isHolding_16 : decode cX6_isHolding 16 = .ok (.iconst 3, 1) := dk_6 (dk_at dksX6_isHolding_0 16 rfl rfl)
theorem dX6_isHolding_17 : decode cX6_isHolding 17 = .ok (.if_icmp .ne 7, 3) := dk_160 0 7 (dk_at dksX6_isHolding_0 17 rfl rfl)
theorem dX6_isHolding_20 : decode cX6_isHolding 20 = .ok (.iconst 1, 1) := dk_4 (dk_at dksX6_isHolding_0 20 rfl rfl)
theorem dX6_isHolding_21 : decode cX6_isHolding 21 = .ok (.goto 4, 3) := dk_167 0 4 (dk_at dksX6_isHolding_0 21 rfl rfl)
theorem dX6_isHolding_24 : decode cX6_isHolding 24 = .ok (.iconst 0, 1) := dk_3 (dk_at dksX6_isHolding_1 0 rfl rfl)
theorem dX6_isHolding_25 : decode cX6_isHolding 25 = .ok (.ireturn, 1) := dk_172 (dk_at dksX6_isHolding_1 1 rfl rfl)
abbrev cX6_letter : ByteArray := prog_25_method_41_code
def yX6_letter : MethodName := ⟨RX6, "letter", "(I)I"⟩
def dkwX6_letter_2 : List UInt8 := [180, 0, 250, 4, 96, 181, 0, 250, 42, 180, 0, 250, 172]
abbrev dktX6_letter_2 : List UInt8 := dkwX6_letter_2 ++ []
def dkwX6_letter_1 : List UInt8 := [61, 28, 153, 0, 9, 42, 28, 182, 0, 253, 172, 42, 180, 0, 94, 42, 180, 0, 250, 27, 79, 42, 89]
abbrev dktX6_letter_1 : List UInt8 := dkwX6_letter_1 ++ dktX6_letter_2
def dkwX6_letter_0 : List UInt8 := [27, 3, 17, 0, 255, 184, 0, 246, 61, 28, 154, 0, 15, 42, 180, 0, 250, 16, 96, 160, 0, 6, 16, 250]
abbrev dktX6_letter_0 : List UInt8 := dkwX6_letter_0 ++ dktX6_letter_1
theorem dksX6_letter_0 : cX6_letter.data.toList.drop 0 = dktX6_letter_0 := by decide +kernel
theorem dksX6_letter_1 : cX6_letter.data.toList.drop 24 = dktX6_letter_1 := dk_seg dksX6_letter_0 24 rfl rfl
theorem dksX6_letter_2 : cX6_letter.data.toList.drop 47 = dktX6_letter_2 := dk_seg dksX6_letter_1 23 rfl rfl
theorem dX6_letter_0 : decode cX6_letter 0 = .ok (.iload_n 1, 1) := dk_27 (dk_at dksX6_letter_0 0 rfl rfl)
theorem dX6_letter_1 : decode cX6_letter 1 = .ok (.iconst 0, 1) := dk_3 (dk_at dksX6_letter_0 1 rfl rfl)
theorem dX6_letter_2 : decode cX6_letter 2 = .ok (.sipush 255, 3) := dk_17 0 255 (dk_at dksX6_letter_0 2 rfl rfl)
theorem dX6_letter_5 : decode cX6_letter 5 = .ok (.invokestatic 246, 3) := dk_184 0 246 (dk_at dksX6_letter_0 5 rfl rfl)
theorem dX6_letter_8 : decode cX6_letter 8 = .ok (.istore_n 2, 1) := dk_61 (dk_at dksX6_letter_0 8 rfl rfl)
theorem dX6_letter_9 : decode cX6_letter 9 = .ok (.iload_n 2, 1) := dk_28 (dk_at dksX6_letter_0 9 rfl rfl)
theorem dX6_letter_10 : decode cX6_letter 10 = .ok (.ifCond .ne 15, 3) := dk_154 0 15 (dk_at dksX6_letter_0 10 rfl rfl)
theorem dX6_letter_13 : decode cX6_letter 13 = .ok (.aload_n 0, 1) := dk_42 (dk_at dksX6_letter_0 13 rfl rfl)
theorem dX6_letter_14 : decode cX6_letter 14 = .ok (.getfield 250, 3) := dk_180 0 250 (dk_at dksX6_letter_0 14 rfl rfl)
theorem dX6_letter_17 : decode cX6_letter 17 = .ok (.bipush 96, 2) := dk_16 96 (dk_at dksX6_letter_0 17 rfl rfl)
theorem dX6_letter_19 : decode cX6_letter 19 = .ok (.if_icmp .ne 6, 3) := dk_160 0 6 (dk_at dksX6_letter_0 19 rfl rfl)
theorem dX6_letter_22 : decode cX6_letter 22 = .ok (.bipush (-6), 2) := dk_16 250 (dk_at dksX6_letter_0 22 rfl rfl)
theorem dX6_letter_24 : decode cX6_letter 24 = .ok (.istore_n 2, 1) := dk_61 (dk_at dksX6_letter_1 0 rfl rfl)
theorem dX6_letter_25 : decode cX6_letter 25 = .ok (.iload_n 2, 1) := dk_28 (dk_at dksX6_letter_1 1 rfl rfl)
theorem dX6_letter_26 : decode cX6_letter 26 = .ok (.ifCond .eq 9, 3) := dk_153 0 9 (dk_at dksX6_letter_1 2 rfl rfl)
theorem dX6_letter_29 : decode cX6_letter 29 = .ok (.aload_n 0, 1) := dk_42 (dk_at dksX6_letter_1 5 rfl rfl)
theorem dX6_letter_30 : decode cX6_letter 30 = .ok (.iload_n 2, 1) := dk_28 (dk_at dksX6_letter_1 6 rfl rfl)
theorem dX6_letter_31 : decode cX6_letter 31 = .ok (.invokevirtual 253, 3) := dk_182 0 253 (dk_at dksX6_letter_1 7 rfl rfl)
theorem dX6_letter_34 : decode cX6_letter 34 = .ok (.ireturn, 1) := dk_172 (dk_at dksX6_letter_1 10 rfl rfl)
theorem dX6_letter_35 : decode cX6_letter 35 = .ok (.aload_n 0, 1) := dk_42 (dk_at dksX6_letter_1 11 rfl rfl)
theorem dX6_letter_36 : decode cX6_letter 36 = .ok (.getfield 94, 3) := dk_180 0 94 (dk_at dksX6_letter_1 12 rfl rfl)
theorem dX6_letter_39 : decode cX6_letter 39 = .ok (.aload_n 0, 1) := dk_42 (dk_at dksX6_letter_1 15 rfl rfl)
theorem dX6_letter_40 : decode cX6_letter 40 = .ok (.getfield 250, 3) := dk_180 0 250 (dk_at dksX6_letter_1 16 rfl rfl)
theorem dX6_letter_43 : decode cX6_letter 43 = .ok (.iload_n 1, 1) := dk_27 (dk_at dksX6_letter_1 19 rfl rfl)
theorem dX6_letter_44 : decode cX6_letter 44 = .ok (.iastore, 1) := dk_79 (dk_at dksX6_letter_1 20 rfl rfl)
theorem dX6_letter_45 : decode cX6_letter 45 = .ok (.aload_n 0, 1) := dk_42 (dk_at dksX6_letter_1 21 rfl rfl)
theorem dX6_letter_46 : decode cX6_letter 46 = .ok (.dup, 1) := dk_89 (dk_at dksX6_letter_1 22 rfl rfl)
theorem dX6_letter_47 : decode cX6_letter 47 = .ok (.getfield 250, 3) := dk_180 0 250 (dk_at dksX6_letter_2 0 rfl rfl)
theorem dX6_letter_50 : decode cX6_letter 50 = .ok (.iconst 1, 1) := dk_4 (dk_at dksX6_letter_2 3 rfl rfl)
theorem dX6_letter_51 : decode cX6_letter 51 = .ok (.iadd, 1) := dk_96 (dk_at dksX6_letter_2 4 rfl rfl)
theorem dX6_letter_52 : decode cX6_letter 52 = .ok (.putfield 250, 3) := dk_181 0 250 (dk_at dksX6_letter_2 5 rfl rfl)
theorem dX6_letter_55 : decode cX6_letter 55 = .ok (.aload_n 0, 1) := dk_42 (dk_at dksX6_letter_2 8 rfl rfl)
theorem dX6_letter_56 : decode cX6_letter 56 = .ok (.getfield 250, 3) := dk_180 0 250 (dk_at dksX6_letter_2 9 rfl rfl)
theorem dX6_letter_59 : decode cX6_letter 59 = .ok (.ireturn, 1) := dk_172 (dk_at dksX6_letter_2 12 rfl rfl)
abbrev cX6_bound : ByteArray := prog_25_method_5_code
def yX6_bound : MethodName := ⟨RX6, "bound", "(III)I"⟩
def dkwX6_bound_0 : List UInt8 := [26, 27, 162, 0, 8, 16, 252, 167, 0, 14, 26, 28, 164, 0, 8, 16, 250, 167, 0, 4, 3, 172]
abbrev dktX6_bound_0 : List UInt8 := dkwX6_bound_0 ++ []
theorem dksX6_bound_0 : cX6_bound.data.toList.drop 0 = dktX6_bound_0 := by decide +kernel
theorem dX6_bound_0 : decode cX6_bound 0 = .ok (.iload_n 0, 1) := dk_26 (dk_at dksX6_bound_0 0 rfl rfl)
theorem dX6_bound_1 : decode cX6_bound 1 = .ok (.iload_n 1, 1) := dk_27 (dk_at dksX6_bound_0 1 rfl rfl)
theorem dX6_bound_2 : decode cX6_bound 2 = .ok (.if_icmp .ge 8, 3) := dk_162 0 8 (dk_at dksX6_bound_0 2 rfl rfl)
theorem dX6_bound_5 : decode cX6_bound 5 = .ok (.bipush (-4), 2) := dk_16 252 (dk_at dksX6_bound_0 5 rfl rfl)
theorem dX6_bound_7 : decode cX6_bound 7 = .ok (.goto 14, 3) := dk_167 0 14 (dk_at dksX6_bound_0 7 rfl rfl)
theorem dX6_bound_10 : decode cX6_bound 10 = .ok (.iload_n 0, 1) := dk_26 (dk_at dksX6_bound_0 10 rfl rfl)
theorem dX6_bound_11 : decode cX6_bound 11 = .ok (.iload_n 2, 1) := dk_28 (dk_at dksX6_bound_0 11 rfl rfl)
theorem dX6_bound_12 : decode cX6_bound 12 = .ok (.if_icmp .le 8, 3) := dk_164 0 8 (dk_at dksX6_bound_0 12 rfl rfl)
theorem dX6_bound_15 : decode cX6_bound 15 = .ok (.bipush (-6), 2) := dk_16 250 (dk_at dksX6_bound_0 15 rfl rfl)
theorem dX6_bound_17 : decode cX6_bound 17 = .ok (.goto 4, 3) := dk_167 0 4 (dk_at dksX6_bound_0 17 rfl rfl)
theorem dX6_bound_20 : decode cX6_bound 20 = .ok (.iconst 0, 1) := dk_3 (dk_at dksX6_bound_0 20 rfl rfl)
theorem dX6_bound_21 : decode cX6_bound 21 = .ok (.ireturn, 1) := dk_172 (dk_at dksX6_bound_0 21 rfl rfl)
abbrev cX6_no : ByteArray := prog_25_method_2_code
def yX6_no : MethodName := ⟨RX6, "no", "(I)I"⟩
def dkwX6_no_0 : List UInt8 := [42, 180, 0, 7, 27, 116, 92, 46, 4, 96, 79, 27, 172]
abbrev dktX6_no_0 : List UInt8 := dkwX6_no_0 ++ []
theorem dksX6_no_0 : cX6_no.data.toList.drop 0 = dktX6_no_0 := by decide +kernel
theorem dX6_no_0 : decode cX6_no 0 = .ok (.aload_n 0, 1) := dk_42 (dk_at dksX6_no_0 0 rfl rfl)
theorem dX6_no_1 : decode cX6_no 1 = .ok (.getfield 7, 3) := dk_180 0 7 (dk_at dksX6_no_0 1 rfl rfl)
theorem dX6_no_4 : decode cX6_no 4 = .ok (.iload_n 1, 1) := dk_27 (dk_at dksX6_no_0 4 rfl rfl)
theorem dX6_no_5 : decode cX6_no 5 = .ok (.ineg, 1) := dk_116 (dk_at dksX6_no_0 5 rfl rfl)
theorem dX6_no_6 : decode cX6_no 6 = .ok (.dup2, 1) := dk_92 (dk_at dksX6_no_0 6 rfl rfl)
theorem dX6_no_7 : decode cX6_no 7 = .ok (.iaload, 1) := dk_46 (dk_at dksX6_no_0 7 rfl rfl)
theorem dX6_no_8 : decode cX6_no 8 = .ok (.iconst 1, 1) := dk_4 (dk_at dksX6_no_0 8 rfl rfl)
theorem dX6_no_9 : decode cX6_no 9 = .ok (.iadd, 1) := dk_96 (dk_at dksX6_no_0 9 rfl rfl)
theorem dX6_no_10 : decode cX6_no 10 = .ok (.iastore, 1) := dk_79 (dk_at dksX6_no_0 10 rfl rfl)
theorem dX6_no_11 : decode cX6_no 11 = .ok (.iload_n 1, 1) := dk_27 (dk_at dksX6_no_0 11 rfl rfl)
theorem dX6_no_12 : decode cX6_no 12 = .ok (.ireturn, 1) := dk_172 (dk_at dksX6_no_0 12 rfl rfl)
abbrev cX6_value : ByteArray := prog_25_method_55_code
def yX6_value : MethodName := ⟨RX6, "value", "()I"⟩
def dkwX6_value_2 : List UInt8 := [17, 248, 48, 42, 180, 1, 7, 100, 167, 0, 11, 17, 252, 24, 42, 180, 1, 0, 100, 172]
abbrev dktX6_value_2 : List UInt8 := dkwX6_value_2 ++ []
def dkwX6_value_1 : List UInt8 := [156, 0, 12, 42, 182, 0, 125, 42, 180, 0, 118, 172, 42, 4, 3, 182, 1, 54, 27, 153, 0, 14]
abbrev dktX6_value_1 : List UInt8 := dkwX6_value_1 ++ dktX6_value_2
def dkwX6_value_0 : List UInt8 := [42, 4, 4, 182, 1, 54, 42, 182, 1, 58, 60, 42, 3, 181, 0, 250, 27, 153, 0, 19, 42, 180, 1, 7]
abbrev dktX6_value_0 : List UInt8 := dkwX6_value_0 ++ dktX6_value_1
theorem dksX6_value_0 : cX6_value.data.toList.drop 0 = dktX6_value_0 := by decide +kernel
theorem dksX6_value_1 : cX6_value.data.toList.drop 24 = dktX6_value_1 := dk_seg dksX6_value_0 24 rfl rfl
theorem dksX6_value_2 : cX6_value.data.toList.drop 46 = dktX6_value_2 := dk_seg dksX6_value_1 22 rfl rfl
theorem dX6_value_0 : decode cX6_value 0 = .ok (.aload_n 0, 1) := dk_42 (dk_at dksX6_value_0 0 rfl rfl)
theorem dX6_value_1 : decode cX6_value 1 = .ok (.iconst 1, 1) := dk_4 (dk_at dksX6_value_0 1 rfl rfl)
theorem dX6_value_2 : decode cX6_value 2 = .ok (.iconst 1, 1) := dk_4 (dk_at dksX6_value_0 2 rfl rfl)
theorem dX6_value_3 : decode cX6_value 3 = .ok (.invokevirtual 310, 3) := dk_182 1 54 (dk_at dksX6_value_0 3 rfl rfl)
theorem dX6_value_6 : decode cX6_value 6 = .ok (.aload_n 0, 1) := dk_42 (dk_at dksX6_value_0 6 rfl rfl)
theorem dX6_value_7 : decode cX6_value 7 = .ok (.invokevirtual 314, 3) := dk_182 1 58 (dk_at dksX6_value_0 7 rfl rfl)
theorem dX6_value_10 : decode cX6_value 10 = .ok (.istore_n 1, 1) := dk_60 (dk_at dksX6_value_0 10 rfl rfl)
theorem dX6_value_11 : decode cX6_value 11 = .ok (.aload_n 0, 1) := dk_42 (dk_at dksX6_value_0 11 rfl rfl)
theorem dX6_value_12 : decode cX6_value 12 = .ok (.iconst 0, 1) := dk_3 (dk_at dksX6_value_0 12 rfl rfl)
theorem dX6_value_13 : decode cX6_value 13 = .ok (.putfield 250, 3) := dk_181 0 250 (dk_at dksX6_value_0 13 rfl rfl)
theorem dX6_value_16 : decode cX6_value 16 = .ok (.iload_n 1, 1) := dk_27 (dk_at dksX6_value_0 16 rfl rfl)
theorem dX6_value_17 : decode cX6_value 17 = .ok (.ifCond .eq 19, 3) := dk_153 0 19 (dk_at dksX6_value_0 17 rfl rfl)
theorem dX6_value_20 : decode cX6_value 20 = .ok (.aload_n 0, 1) := dk_42 (dk_at dksX6_value_0 20 rfl rfl)
theorem dX6_value_21 : decode cX6_value 21 = .ok (.getfield 263, 3) := dk_180 1 7 (dk_at dksX6_value_0 21 rfl rfl)
theorem dX6_value_24 : decode cX6_value 24 = .ok (.ifCond .ge 12, 3) := dk_156 0 12 (dk_at dksX6_value_1 0 rfl rfl)
theorem dX6_value_27 : decode cX6_value 27 = .ok (.aload_n 0, 1) := dk_42 (dk_at dksX6_value_1 3 rfl rfl)
theorem dX6_value_28 : decode cX6_value 28 = .ok (.invokevirtual 125, 3) := dk_182 0 125 (dk_at dksX6_value_1 4 rfl rfl)
theorem dX6_value_31 : decode cX6_value 31 = .ok (.aload_n 0, 1) := dk_42 (dk_at dksX6_value_1 7 rfl rfl)
theorem dX6_value_32 : decode cX6_value 32 = .ok (.getfield 118, 3) := dk_180 0 118 (dk_at dksX6_value_1 8 rfl rfl)
theorem dX6_value_35 : decode cX6_value 35 = .ok (.ireturn, 1) := dk_172 (dk_at dksX6_value_1 11 rfl rfl)
theorem dX6_value_36 : decode cX6_value 36 = .ok (.aload_n 0, 1) := dk_42 (dk_at dksX6_value_1 12 rfl rfl)
theorem dX6_value_37 : decode cX6_value 37 = .ok (.iconst 1, 1) := dk_4 (dk_at dksX6_value_1 13 rfl rfl)
theorem dX6_value_38 : decode cX6_value 38 = .ok (.iconst 0, 1) := dk_3 (dk_at dksX6_value_1 14 rfl rfl)
theorem dX6_value_39 : decode cX6_value 39 = .ok (.invokevirtual 310, 3) := dk_182 1 54 (dk_at dksX6_value_1 15 rfl rfl)
theorem dX6_value_42 : decode cX6_value 42 = .ok (.iload_n 1, 1) := dk_27 (dk_at dksX6_value_1 18 rfl rfl)
theorem dX6_value_43 : decode cX6_value 43 = .ok (.ifCond .eq 14, 3) := dk_153 0 14 (dk_at dksX6_value_1 19 rfl rfl)
theorem dX6_value_46 : decode cX6_value 46 = .ok (.sipush (-2000), 3) := dk_17 248 48 (dk_at dksX6_value_2 0 rfl rfl)
theorem dX6_value_49 : decode cX6_value 49 = .ok (.aload_n 0, 1) := dk_42 (dk_at dksX6_value_2 3 rfl rfl)
theorem dX6_value_50 : decode cX6_value 50 = .ok (.getfield 263, 3) := dk_180 1 7 (dk_at dksX6_value_2 4 rfl rfl)
theorem dX6_value_53 : decode cX6_value 53 = .ok (.isub, 1) := dk_100 (dk_at dksX6_value_2 7 rfl rfl)
theorem dX6_value_54 : decode cX6_value 54 = .ok (.goto 11, 3) := dk_167 0 11 (dk_at dksX6_value_2 8 rfl rfl)
theorem dX6_value_57 : decode cX6_value 57 = .ok (.sipush (-1000), 3) := dk_17 252 24 (dk_at dksX6_value_2 11 rfl rfl)
theorem dX6_value_60 : decode cX6_value 60 = .ok (.aload_n 0, 1) := dk_42 (dk_at dksX6_value_2 14 rfl rfl)
theorem dX6_value_61 : decode cX6_value 61 = .ok (.getfield 256, 3) := dk_180 1 0 (dk_at dksX6_value_2 15 rfl rfl)
theorem dX6_value_64 : decode cX6_value 64 = .ok (.isub, 1) := dk_100 (dk_at dksX6_value_2 18 rfl rfl)
theorem dX6_value_65 : decode cX6_value 65 = .ok (.ireturn, 1) := dk_172 (dk_at dksX6_value_2 19 rfl rfl)
abbrev cX6_passesValue : ByteArray := prog_25_method_69_code
def yX6_passesValue : MethodName := ⟨RX6, "passesValue", "(IZ)V"⟩
def dkwX6_passesValue_2 : List UInt8 := [181, 0, 118, 28, 154, 0, 7, 42, 182, 0, 125, 177]
abbrev dktX6_passesValue_2 : List UInt8 := dkwX6_passesValue_2 ++ []
def dkwX6_passesValue_1 : List UInt8 := [180, 0, 16, 182, 1, 104, 42, 42, 180, 0, 19, 182, 1, 104, 42, 42, 42, 180, 0, 118, 182, 1, 108]
abbrev dktX6_passesValue_1 : List UInt8 := dkwX6_passesValue_1 ++ dktX6_passesValue_2
def dkwX6_passesValue_0 : List UInt8 := [42, 17, 1, 204, 27, 104, 181, 1, 101, 42, 28, 181, 1, 97, 42, 42, 180, 0, 13, 182, 1, 104, 42, 42]
abbrev dktX6_passesValue_0 : List UInt8 := dkwX6_passesValue_0 ++ dktX6_passesValue_1
theorem dksX6_passesValue_0 : cX6_passesValue.data.toList.drop 0 = dktX6_passesValue_0 := by decide +kernel
theorem dksX6_passesValue_1 : cX6_passesValue.data.toList.drop 24 = dktX6_passesValue_1 := dk_seg dksX6_passesValue_0 24 rfl rfl
theorem dksX6_passesValue_2 : cX6_passesValue.data.toList.drop 47 = dktX6_passesValue_2 := dk_seg dksX6_passesValue_1 23 rfl rfl
theorem dX6_passesValue_0 : decode cX6_passesValue 0 = .ok (.aload_n 0, 1) := dk_42 (dk_at dksX6_passesValue_0 0 rfl rfl)
theorem dX6_passesValue_1 : decode cX6_passesValue 1 = .ok (.sipush 460, 3) := dk_17 1 204 (dk_at dksX6_passesValue_0 1 rfl rfl)
theorem dX6_passesValue_4 : decode cX6_passesValue 4 = .ok (.iload_n 1, 1) := dk_27 (dk_at dksX6_passesValue_0 4 rfl rfl)
theorem dX6_passesValue_5 : decode cX6_passesValue 5 = .ok (.imul, 1) := dk_104 (dk_at dksX6_passesValue_0 5 rfl rfl)
theorem dX6_passesValue_6 : decode cX6_passesValue 6 = .ok (.putfield 357, 3) := dk_181 1 101 (dk_at dksX6_passesValue_0 6 rfl rfl)
theorem dX6_passesValue_9 : decode cX6_passesValue 9 = .ok (.aload_n 0, 1) := dk_42 (dk_at dksX6_passesValue_0 9 rfl rfl)
theorem dX6_passesValue_10 : decode cX6_passesValue 10 = .ok (.iload_n 2, 1) := dk_28 (dk_at dksX6_passesValue_0 10 rfl rfl)
theorem dX6_passesValue_11 : decode cX6_passesValue 11 = .ok (.putfield 353, 3) := dk_181 1 97 (dk_at dksX6_passesValue_0 11 rfl rfl)
theorem dX6_passesValue_14 : decode cX6_passesValue 14 = .ok (.aload_n 0, 1) := dk_42 (dk_at dksX6_passesValue_0 14 rfl rfl)
theorem dX6_passesValue_15 : decode cX6_passesValue 15 = .ok (.aload_n 0, 1) := dk_42 (dk_at dksX6_passesValue_0 15 rfl rfl)
theorem dX6_passesValue_16 : decode cX6_passesValue 16 = .ok (.getfield 13, 3) := dk_180 0 13 (dk_at dksX6_passesValue_0 16 rfl rfl)
theorem dX6_passesValue_19 : decode cX6_passesValue 19 = .ok (.invokevirtual 360, 3) := dk_182 1 104 (dk_at dksX6_passesValue_0 19 rfl rfl)
theorem dX6_passesValue_22 : decode cX6_passesValue 22 = .ok (.aload_n 0, 1) := dk_42 (dk_at dksX6_passesValue_0 22 rfl rfl)
theorem dX6_passesValue_23 : decode cX6_passesValue 23 = .ok (.aload_n 0, 1) := dk_42 (dk_at dksX6_passesValue_0 23 rfl rfl)
theorem dX6_passesValue_24 : decode cX6_passesValue 24 = .ok (.getfield 16, 3) := dk_180 0 16 (dk_at dksX6_passesValue_1 0 rfl rfl)
theorem dX6_passesValue_27 : decode cX6_passesValue 27 = .ok (.invokevirtual 360, 3) := dk_182 1 104 (dk_at dksX6_passesValue_1 3 rfl rfl)
theorem dX6_passesValue_30 : decode cX6_passesValue 30 = .ok (.aload_n 0, 1) := dk_42 (dk_at dksX6_passesValue_1 6 rfl rfl)
theorem dX6_passesValue_31 : decode cX6_passesValue 31 = .ok (.aload_n 0, 1) := dk_42 (dk_at dksX6_passesValue_1 7 rfl rfl)
theorem dX6_passesValue_32 : decode cX6_passesValue 32 = .ok (.getfield 19, 3) := dk_180 0 19 (dk_at dksX6_passesValue_1 8 rfl rfl)
theorem dX6_passesValue_35 : decode cX6_passesValue 35 = .ok (.invokevirtual 360, 3) := dk_182 1 104 (dk_at dksX6_passesValue_1 11 rfl rfl)
theorem dX6_passesValue_38 : decode cX6_passesValue 38 = .ok (.aload_n 0, 1) := dk_42 (dk_at dksX6_passesValue_1 14 rfl rfl)
theorem dX6_passesValue_39 : decode cX6_passesValue 39 = .ok (.aload_n 0, 1) := dk_42 (dk_at dksX6_passesValue_1 15 rfl rfl)
theorem dX6_passesValue_40 : decode cX6_passesValue 40 = .ok (.aload_n 0, 1) := dk_42 (dk_at dksX6_passesValue_1 16 rfl rfl)
theorem dX6_passesValue_41 : decode cX6_passesValue 41 = .ok (.getfield 118, 3) := dk_180 0 118 (dk_at dksX6_passesValue_1 17 rfl rfl)
theorem dX6_passesValue_44 : decode cX6_passesValue 44 = .ok (.invokevirtual 364, 3) := dk_182 1 108 (dk_at dksX6_passesValue_1 20 rfl rfl)
theorem dX6_passesValue_47 : decode cX6_passesValue 47 = .ok (.putfield 118, 3) := dk_181 0 118 (dk_at dksX6_passesValue_2 0 rfl rfl)
theorem dX6_passesValue_50 : decode cX6_passesValue 50 = .ok (.iload_n 2, 1) := dk_28 (dk_at dksX6_passesValue_2 3 rfl rfl)
theorem dX6_passesValue_51 : decode cX6_passesValue 51 = .ok (.ifCond .ne 7, 3) := dk_154 0 7 (dk_at dksX6_passesValue_2 4 rfl rfl)
theorem dX6_passesValue_54 : decode cX6_passesValue 54 = .ok (.aload_n 0, 1) := dk_42 (dk_at dksX6_passesValue_2 7 rfl rfl)
theorem dX6_passesValue_55 : decode cX6_passesValue 55 = .ok (.invokevirtual 125, 3) := dk_182 0 125 (dk_at dksX6_passesValue_2 8 rfl rfl)
theorem dX6_passesValue_58 : decode cX6_passesValue 58 = .ok (.return_, 1) := dk_177 (dk_at dksX6_passesValue_2 11 rfl rfl)
abbrev cX6_passes : ByteArray := prog_25_method_67_code
def yX6_passes : MethodName := ⟨RX6, "passes", "([I)V"⟩
def dkwX6_passes_2 : List UInt8 := [96, 181, 1, 101, 132, 2, 1, 167, 255, 203, 177]
abbrev dktX6_passes_2 : List UInt8 := dkwX6_passes_2 ++ []
def dkwX6_passes_1 : List UInt8 := [28, 46, 79, 167, 0, 15, 43, 28, 42, 180, 0, 112, 42, 180, 1, 101, 46, 79, 42, 89, 180, 1, 101, 4]
abbrev dktX6_passes_1 : List UInt8 := dkwX6_passes_1 ++ dktX6_passes_2
def dkwX6_passes_0 : List UInt8 := [3, 61, 28, 43, 190, 162, 0, 53, 42, 180, 1, 97, 153, 0, 18, 42, 180, 0, 112, 42, 180, 1, 101, 43]
abbrev dktX6_passes_0 : List UInt8 := dkwX6_passes_0 ++ dktX6_passes_1
theorem dksX6_passes_0 : cX6_passes.data.toList.drop 0 = dktX6_passes_0 := by decide +kernel
theorem dksX6_passes_1 : cX6_passes.data.toList.drop 24 = dktX6_passes_1 := dk_seg dksX6_passes_0 24 rfl rfl
theorem dksX6_passes_2 : cX6_passes.data.toList.drop 48 = dktX6_passes_2 := dk_seg dksX6_passes_1 24 rfl rfl
theorem dX6_passes_0 : decode cX6_passes 0 = .ok (.iconst 0, 1) := dk_3 (dk_at dksX6_passes_0 0 rfl rfl)
theorem dX6_passes_1 : decode cX6_passes 1 = .ok (.istore_n 2, 1) := dk_61 (dk_at dksX6_passes_0 1 rfl rfl)
theorem dX6_passes_2 : decode cX6_passes 2 = .ok (.iload_n 2, 1) := dk_28 (dk_at dksX6_passes_0 2 rfl rfl)
theorem dX6_passes_3 : decode cX6_passes 3 = .ok (.aload_n 1, 1) := dk_43 (dk_at dksX6_passes_0 3 rfl rfl)
theorem dX6_passes_4 : decode cX6_passes 4 = .ok (.arraylength, 1) := dk_190 (dk_at dksX6_passes_0 4 rfl rfl)
theorem dX6_passes_5 : decode cX6_passes 5 = .ok (.if_icmp .ge 53, 3) := dk_162 0 53 (dk_at dksX6_passes_0 5 rfl rfl)
theorem dX6_passes_8 : decode cX6_passes 8 = .ok (.aload_n 0, 1) := dk_42 (dk_at dksX6_passes_0 8 rfl rfl)
theorem dX6_passes_9 : decode cX6_passes 9 = .ok (.getfield 353, 3) := dk_180 1 97 (dk_at dksX6_passes_0 9 rfl rfl)
theorem dX6_passes_12 : decode cX6_passes 12 = .ok (.ifCond .eq 18, 3) := dk_153 0 18 (dk_at dksX6_passes_0 12 rfl rfl)
theorem dX6_passes_15 : decode cX6_passes 15 = .ok (.aload_n 0, 1) := dk_42 (dk_at dksX6_passes_0 15 rfl rfl)
theorem dX6_passes_16 : decode cX6_passes 16 = .ok (.getfield 112, 3) := dk_180 0 112 (dk_at dksX6_passes_0 16 rfl rfl)
theorem dX6_passes_19 : decode cX6_passes 19 = .ok (.aload_n 0, 1) := dk_42 (dk_at dksX6_passes_0 19 rfl rfl)
theorem dX6_passes_20 : decode cX6_passes 20 = .ok (.getfield 357, 3) := dk_180 1 101 (dk_at dksX6_passes_0 20 rfl rfl)
theorem dX6_passes_23 : decode cX6_passes 23 = .ok (.aload_n 1, 1) := dk_43 (dk_at dksX6_passes_0 23 rfl rfl)
theorem dX6_passes_24 : decode cX6_passes 24 = .ok (.iload_n 2, 1) := dk_28 (dk_at dksX6_passes_1 0 rfl rfl)
theorem dX6_passes_25 : decode cX6_passes 25 = .ok (.iaload, 1) := dk_46 (dk_at dksX6_passes_1 1 rfl rfl)
theorem dX6_passes_26 : decode cX6_passes 26 = .ok (.iastore, 1) := dk_79 (dk_at dksX6_passes_1 2 rfl rfl)
theorem dX6_passes_27 : decode cX6_passes 27 = .ok (.goto 15, 3) := dk_167 0 15 (dk_at dksX6_passes_1 3 rfl rfl)
theorem dX6_passes_30 : decode cX6_passes 30 = .ok (.aload_n 1, 1) := dk_43 (dk_at dksX6_passes_1 6 rfl rfl)
theorem dX6_passes_31 : decode cX6_passes 31 = .ok (.iload_n 2, 1) := dk_28 (dk_at dksX6_passes_1 7 rfl rfl)
theorem dX6_passes_32 : decode cX6_passes 32 = .ok (.aload_n 0, 1) := dk_42 (dk_at dksX6_passes_1 8 rfl rfl)
theorem dX6_passes_33 : decode cX6_passes 33 = .ok (.getfield 112, 3) := dk_180 0 112 (dk_at dksX6_passes_1 9 rfl rfl)
theorem dX6_passes_36 : decode cX6_passes 36 = .ok (.aload_n 0, 1) := dk_42 (dk_at dksX6_passes_1 12 rfl rfl)
theorem dX6_passes_37 : decode cX6_passes 37 = .ok (.getfield 357, 3) := dk_180 1 101 (dk_at dksX6_passes_1 13 rfl rfl)
theorem dX6_passes_40 : decode cX6_passes 40 = .ok (.iaload, 1) := dk_46 (dk_at dksX6_passes_1 16 rfl rfl)
theorem dX6_passes_41 : decode cX6_passes 41 = .ok (.iastore, 1) := dk_79 (dk_at dksX6_passes_1 17 rfl rfl)
theorem dX6_passes_42 : decode cX6_passes 42 = .ok (.aload_n 0, 1) := dk_42 (dk_at dksX6_passes_1 18 rfl rfl)
theorem dX6_passes_43 : decode cX6_passes 43 = .ok (.dup, 1) := dk_89 (dk_at dksX6_passes_1 19 rfl rfl)
theorem dX6_passes_44 : decode cX6_passes 44 = .ok (.getfield 357, 3) := dk_180 1 101 (dk_at dksX6_passes_1 20 rfl rfl)
theorem dX6_passes_47 : decode cX6_passes 47 = .ok (.iconst 1, 1) := dk_4 (dk_at dksX6_passes_1 23 rfl rfl)
theorem dX6_passes_48 : decode cX6_passes 48 = .ok (.iadd, 1) := dk_96 (dk_at dksX6_passes_2 0 rfl rfl)
theorem dX6_passes_49 : decode cX6_passes 49 = .ok (.putfield 357, 3) := dk_181 1 101 (dk_at dksX6_passes_2 1 rfl rfl)
theorem dX6_passes_52 : decode cX6_passes 52 = .ok (.iinc 2 1, 3) := dk_132 2 1 (dk_at dksX6_passes_2 4 rfl rfl)
theorem dX6_passes_55 : decode cX6_passes 55 = .ok (.goto (-53), 3) := dk_167 255 203 (dk_at dksX6_passes_2 7 rfl rfl)
theorem dX6_passes_58 : decode cX6_passes 58 = .ok (.return_, 1) := dk_177 (dk_at dksX6_passes_2 10 rfl rfl)
abbrev cX6_passOne : ByteArray := prog_25_method_68_code
def yX6_passOne : MethodName := ⟨RX6, "passOne", "(I)I"⟩
def dkwX6_passOne_2 : List UInt8 := [181, 1, 101, 28, 172]
abbrev dktX6_passOne_2 : List UInt8 := dkwX6_passOne_2 ++ []
def dkwX6_passOne_1 : List UInt8 := [180, 1, 97, 153, 0, 13, 42, 180, 0, 112, 42, 180, 1, 101, 27, 79, 42, 89, 180, 1, 101, 4, 96]
abbrev dktX6_passOne_1 : List UInt8 := dkwX6_passOne_1 ++ dktX6_passOne_2
def dkwX6_passOne_0 : List UInt8 := [42, 180, 1, 97, 153, 0, 7, 27, 167, 0, 12, 42, 180, 0, 112, 42, 180, 1, 101, 46, 61, 42]
abbrev dktX6_passOne_0 : List UInt8 := dkwX6_passOne_0 ++ dktX6_passOne_1
theorem dksX6_passOne_0 : cX6_passOne.data.toList.drop 0 = dktX6_passOne_0 := by decide +kernel
theorem dksX6_passOne_1 : cX6_passOne.data.toList.drop 22 = dktX6_passOne_1 := dk_seg dksX6_passOne_0 22 rfl rfl
theorem dksX6_passOne_2 : cX6_passOne.data.toList.drop 45 = dktX6_passOne_2 := dk_seg dksX6_passOne_1 23 rfl rfl
theorem dX6_passOne_0 : decode cX6_passOne 0 = .ok (.aload_n 0, 1) := dk_42 (dk_at dksX6_passOne_0 0 rfl rfl)
theorem dX6_passOne_1 : decode cX6_passOne 1 = .ok (.getfield 353, 3) := dk_180 1 97 (dk_at dksX6_passOne_0 1 rfl rfl)
theorem dX6_passOne_4 : decode cX6_passOne 4 = .ok (.ifCond .eq 7, 3) := dk_153 0 7 (dk_at dksX6_passOne_0 4 rfl rfl)
theorem dX6_passOne_7 : decode cX6_passOne 7 = .ok (.iload_n 1, 1) := dk_27 (dk_at dksX6_passOne_0 7 rfl rfl)
theorem dX6_passOne_8 : decode cX6_passOne 8 = .ok (.goto 12, 3) := dk_167 0 12 (dk_at dksX6_passOne_0 8 rfl rfl)
theorem dX6_passOne_11 : decode cX6_passOne 11 = .ok (.aload_n 0, 1) := dk_42 (dk_at dksX6_passOne_0 11 rfl rfl)
theorem dX6_passOne_12 : decode cX6_passOne 12 = .ok (.getfield 112, 3) := dk_180 0 112 (dk_at dksX6_passOne_0 12 rfl rfl)
theorem dX6_passOne_15 : decode cX6_passOne 15 = .ok (.aload_n 0, 1) := dk_42 (dk_at dksX6_passOne_0 15 rfl rfl)
theorem dX6_passOne_16 : decode cX6_passOne 16 = .ok (.getfield 357, 3) := dk_180 1 101 (dk_at dksX6_passOne_0 16 rfl rfl)
theorem dX6_passOne_19 : decode cX6_passOne 19 = .ok (.iaload, 1) := dk_46 (dk_at dksX6_passOne_0 19 rfl rfl)
theorem dX6_passOne_20 : decode cX6_passOne 20 = .ok (.istore_n 2, 1) := dk_61 (dk_at dksX6_passOne_0 20 rfl rfl)
theorem dX6_passOne_21 : decode cX6_passOne 21 = .ok (.aload_n 0, 1) := dk_42 (dk_at dksX6_passOne_0 21 rfl rfl)
theorem dX6_passOne_22 : decode cX6_passOne 22 = .ok (.getfield 353, 3) := dk_180 1 97 (dk_at dksX6_passOne_1 0 rfl rfl)
theorem dX6_passOne_25 : decode cX6_passOne 25 = .ok (.ifCond .eq 13, 3) := dk_153 0 13 (dk_at dksX6_passOne_1 3 rfl rfl)
theorem dX6_passOne_28 : decode cX6_passOne 28 = .ok (.aload_n 0, 1) := dk_42 (dk_at dksX6_passOne_1 6 rfl rfl)
theorem dX6_passOne_29 : decode cX6_passOne 29 = .ok (.getfield 112, 3) := dk_180 0 112 (dk_at dksX6_passOne_1 7 rfl rfl)
theorem dX6_passOne_32 : decode cX6_passOne 32 = .ok (.aload_n 0, 1) := dk_42 (dk_at dksX6_passOne_1 10 rfl rfl)
theorem dX6_passOne_33 : decode cX6_passOne 33 = .ok (.getfield 357, 3) := dk_180 1 101 (dk_at dksX6_passOne_1 11 rfl rfl)
theorem dX6_passOne_36 : decode cX6_passOne 36 = .ok (.iload_n 1, 1) := dk_27 (dk_at dksX6_passOne_1 14 rfl rfl)
theorem dX6_passOne_37 : decode cX6_passOne 37 = .ok (.iastore, 1) := dk_79 (dk_at dksX6_passOne_1 15 rfl rfl)
theorem dX6_passOne_38 : decode cX6_passOne 38 = .ok (.aload_n 0, 1) := dk_42 (dk_at dksX6_passOne_1 16 rfl rfl)
theorem dX6_passOne_39 : decode cX6_passOne 39 = .ok (.dup, 1) := dk_89 (dk_at dksX6_passOne_1 17 rfl rfl)
theorem dX6_passOne_40 : decode cX6_passOne 40 = .ok (.getfield 357, 3) := dk_180 1 101 (dk_at dksX6_passOne_1 18 rfl rfl)
theorem dX6_passOne_43 : decode cX6_passOne 43 = .ok (.iconst 1, 1) := dk_4 (dk_at dksX6_passOne_1 21 rfl rfl)
theorem dX6_passOne_44 : decode cX6_passOne 44 = .ok (.iadd, 1) := dk_96 (dk_at dksX6_passOne_1 22 rfl rfl)
theorem dX6_passOne_45 : decode cX6_passOne 45 = .ok (.putfield 357, 3) := dk_181 1 101 (dk_at dksX6_passOne_2 0 rfl rfl)
theorem dX6_passOne_48 : decode cX6_passOne 48 = .ok (.iload_n 2, 1) := dk_28 (dk_at dksX6_passOne_2 3 rfl rfl)
theorem dX6_passOne_49 : decode cX6_passOne 49 = .ok (.ireturn, 1) := dk_172 (dk_at dksX6_passOne_2 4 rfl rfl)
abbrev cX6_readsValue : ByteArray := prog_25_method_54_code
def yX6_readsValue : MethodName := ⟨RX6, "readsValue", "()Z"⟩
def dkwX6_readsValue_2 : List UInt8 := [167, 255, 240, 27, 153, 0, 18, 42, 180, 1, 0, 42, 180, 0, 250, 160, 0, 7, 4, 167, 0, 4, 3, 172]
abbrev dktX6_readsValue_2 : List UInt8 := dkwX6_readsValue_2 ++ []
def dkwX6_readsValue_1 : List UInt8 := [181, 1, 16, 42, 182, 1, 42, 60, 27, 153, 0, 18, 42, 180, 1, 10, 158, 0, 11, 42, 182, 1, 51, 60]
abbrev dktX6_readsValue_1 : List UInt8 := dkwX6_readsValue_1 ++ dktX6_readsValue_2
def dkwX6_readsValue_0 : List UInt8 := [42, 3, 181, 1, 0, 42, 2, 181, 1, 7, 42, 3, 181, 1, 10, 42, 3, 181, 0, 118, 42, 3]
abbrev dktX6_readsValue_0 : List UInt8 := dkwX6_readsValue_0 ++ dktX6_readsValue_1
theorem dksX6_readsValue_0 : cX6_readsValue.data.toList.drop 0 = dktX6_readsValue_0 := by decide +kernel
theorem dksX6_readsValue_1 : cX6_readsValue.data.toList.drop 22 = dktX6_readsValue_1 := dk_seg dksX6_readsValue_0 22 rfl rfl
theorem dksX6_readsValue_2 : cX6_readsValue.data.toList.drop 46 = dktX6_readsValue_2 := dk_seg dksX6_readsValue_1 24 rfl rfl
theorem dX6_readsValue_0 : decode cX6_readsValue 0 = .ok (.aload_n 0, 1) := dk_42 (dk_at dksX6_readsValue_0 0 rfl rfl)
theorem dX6_readsValue_1 : decode cX6_readsValue 1 = .ok (.iconst 0, 1) := dk_3 (dk_at dksX6_readsValue_0 1 rfl rfl)
theorem dX6_readsValue_2 : decode cX6_readsValue 2 = .ok (.putfield 256, 3) := dk_181 1 0 (dk_at dksX6_readsValue_0 2 rfl rfl)
theorem dX6_readsValue_5 : decode cX6_readsValue 5 = .ok (.aload_n 0, 1) := dk_42 (dk_at dksX6_readsValue_0 5 rfl rfl)
theorem dX6_readsValue_6 : decode cX6_readsValue 6 = .ok (.iconst (-1), 1) := dk_2 (dk_at dksX6_readsValue_0 6 rfl rfl)
theorem dX6_readsValue_7 : decode cX6_readsValue 7 = .ok (.putfield 263, 3) := dk_181 1 7 (dk_at dksX6_readsValue_0 7 rfl rfl)
theorem dX6_readsValue_10 : decode cX6_readsValue 10 = .ok (.aload_n 0, 1) := dk_42 (dk_at dksX6_readsValue_0 10 rfl rfl)
theorem dX6_readsValue_11 : decode cX6_readsValue 11 = .ok (.iconst 0, 1) := dk_3 (dk_at dksX6_readsValue_0 11 rfl rfl)
theorem dX6_readsValue_12 : decode cX6_readsValue 12 = .ok (.putfield 266, 3) := dk_181 1 10 (dk_at dksX6_readsValue_0 12 rfl rfl)
theorem dX6_readsValue_15 : decode cX6_readsValue 15 = .ok (.aload_n 0, 1) := dk_42 (dk_at dksX6_readsValue_0 15 rfl rfl)
theorem dX6_readsValue_16 : decode cX6_readsValue 16 = .ok (.iconst 0, 1) := dk_3 (dk_at dksX6_readsValue_0 16 rfl rfl)
theorem dX6_readsValue_17 : decode cX6_readsValue 17 = .ok (.putfield 118, 3) := dk_181 0 118 (dk_at dksX6_readsValue_0 17 rfl rfl)
theorem dX6_readsValue_20 : decode cX6_readsValue 20 = .ok (.aload_n 0, 1) := dk_42 (dk_at dksX6_readsValue_0 20 rfl rfl)
theorem dX6_readsValue_21 : decode cX6_readsValue 21 = .ok (.iconst 0, 1) := dk_3 (dk_at dksX6_readsValue_0 21 rfl rfl)
theorem dX6_readsValue_22 : decode cX6_readsValue 22 = .ok (.putfield 272, 3) := dk_181 1 16 (dk_at dksX6_readsValue_1 0 rfl rfl)
theorem dX6_readsValue_25 : decode cX6_readsValue 25 = .ok (.aload_n 0, 1) := dk_42 (dk_at dksX6_readsValue_1 3 rfl rfl)
theorem dX6_readsValue_26 : decode cX6_readsValue 26 = .ok (.invokevirtual 298, 3) := dk_182 1 42 (dk_at dksX6_readsValue_1 4 rfl rfl)
theorem dX6_readsValue_29 : decode cX6_readsValue 29 = .ok (.istore_n 1, 1) := dk_60 (dk_at dksX6_readsValue_1 7 rfl rfl)
theorem dX6_readsValue_30 : decode cX6_readsValue 30 = .ok (.iload_n 1, 1) := dk_27 (dk_at dksX6_readsValue_1 8 rfl rfl)
theorem dX6_readsValue_31 : decode cX6_readsValue 31 = .ok (.ifCond .eq 18, 3) := dk_153 0 18 (dk_at dksX6_readsValue_1 9 rfl rfl)
theorem dX6_readsValue_34 : decode cX6_readsValue 34 = .ok (.aload_n 0, 1) := dk_42 (dk_at dksX6_readsValue_1 12 rfl rfl)
theorem dX6_readsValue_35 : decode cX6_readsValue 35 = .ok (.getfield 266, 3) := dk_180 1 10 (dk_at dksX6_readsValue_1 13 rfl rfl)
theorem dX6_readsValue_38 : decode cX6_readsValue 38 = .ok (.ifCond .le 11, 3) := dk_158 0 11 (dk_at dksX6_readsValue_1 16 rfl rfl)
theorem dX6_readsValue_41 : decode cX6_readsValue 41 = .ok (.aload_n 0, 1) := dk_42 (dk_at dksX6_readsValue_1 19 rfl rfl)
theorem dX6_readsValue_42 : decode cX6_readsValue 42 = .ok (.invokevirtual 307, 3) := dk_182 1 51 (dk_at dksX6_readsValue_1 20 rfl rfl)
theorem dX6_readsValue_45 : decode cX6_readsValue 45 = .ok (.istore_n 1, 1) := dk_60 (dk_at dksX6_readsValue_1 23 rfl rfl)
theorem dX6_readsValue_46 : decode cX6_readsValue 46 = .ok (.goto (-16), 3) := dk_167 255 240 (dk_at dksX6_readsValue_2 0 rfl rfl)
theorem dX6_readsValue_49 : decode cX6_readsValue 49 = .ok (.iload_n 1, 1) := dk_27 (dk_at dksX6_readsValue_2 3 rfl rfl)
theorem dX6_readsValue_50 : decode cX6_readsValue 50 = .ok (.ifCond .eq 18, 3) := dk_153 0 18 (dk_at dksX6_readsValue_2 4 rfl rfl)
theorem dX6_readsValue_53 : decode cX6_readsValue 53 = .ok (.aload_n 0, 1) := dk_42 (dk_at dksX6_readsValue_2 7 rfl rfl)
theorem dX6_readsValue_54 : decode cX6_readsValue 54 = .ok (.getfield 256, 3) := dk_180 1 0 (dk_at dksX6_readsValue_2 8 rfl rfl)
theorem dX6_readsValue_57 : decode cX6_readsValue 57 = .ok (.aload_n 0, 1) := dk_42 (dk_at dksX6_readsValue_2 11 rfl rfl)
theorem dX6_readsValue_58 : decode cX6_readsValue 58 = .ok (.getfield 250, 3) := dk_180 0 250 (dk_at dksX6_readsValue_2 12 rfl rfl)
theorem dX6_readsValue_61 : decode cX6_readsValue 61 = .ok (.if_icmp .ne 7, 3) := dk_160 0 7 (dk_at dksX6_readsValue_2 15 rfl rfl)
theorem dX6_readsValue_64 : decode cX6_readsValue 64 = .ok (.iconst 1, 1) := dk_4 (dk_at dksX6_readsValue_2 18 rfl rfl)
theorem dX6_readsValue_65 : decode cX6_readsValue 65 = .ok (.goto 4, 3) := dk_167 0 4 (dk_at dksX6_readsValue_2 19 rfl rfl)
theorem dX6_readsValue_68 : decode cX6_readsValue 68 = .ok (.iconst 0, 1) := dk_3 (dk_at dksX6_readsValue_2 22 rfl rfl)
theorem dX6_readsValue_69 : decode cX6_readsValue 69 = .ok (.ireturn, 1) := dk_172 (dk_at dksX6_readsValue_2 23 rfl rfl)
abbrev cX6_readsPart : ByteArray := prog_25_method_50_code
def yX6_readsPart : MethodName := ⟨RX6, "readsPart", "()Z"⟩
def dkwX6_readsPart_3 : List UInt8 := [182, 1, 29, 167, 0, 5, 3, 172, 42, 89, 180, 1, 0, 4, 96, 181, 1, 0, 4, 172]
abbrev dktX6_readsPart_3 : List UInt8 := dkwX6_readsPart_3 ++ []
def dkwX6_readsPart_2 : List UInt8 := [160, 0, 30, 27, 16, 40, 160, 0, 7, 5, 167, 0, 4, 6, 61, 42, 42, 28, 3, 182, 1, 19, 28, 3]
abbrev dktX6_readsPart_2 : List UInt8 := dkwX6_readsPart_2 ++ dktX6_readsPart_3
def dkwX6_readsPart_1 : List UInt8 := [160, 0, 13, 42, 4, 3, 182, 1, 19, 87, 167, 0, 44, 27, 16, 40, 159, 0, 9, 27, 16, 91]
abbrev dktX6_readsPart_1 : List UInt8 := dkwX6_readsPart_1 ++ dktX6_readsPart_2
def dkwX6_readsPart_0 : List UInt8 := [42, 182, 1, 3, 60, 27, 16, 48, 16, 57, 184, 0, 213, 153, 0, 8, 42, 182, 1, 25, 172, 27, 16, 63]
abbrev dktX6_readsPart_0 : List UInt8 := dkwX6_readsPart_0 ++ dktX6_readsPart_1
theorem dksX6_readsPart_0 : cX6_readsPart.data.toList.drop 0 = dktX6_readsPart_0 := by decide +kernel
theorem dksX6_readsPart_1 : cX6_readsPart.data.toList.drop 24 = dktX6_readsPart_1 := dk_seg dksX6_readsPart_0 24 rfl rfl
theorem dksX6_readsPart_2 : cX6_readsPart.data.toList.drop 46 = dktX6_readsPart_2 := dk_seg dksX6_readsPart_1 22 rfl rfl
theorem dksX6_readsPart_3 : cX6_readsPart.data.toList.drop 70 = dktX6_readsPart_3 := dk_seg dksX6_readsPart_2 24 rfl rfl
theorem dX6_readsPart_0 : decode cX6_readsPart 0 = .ok (.aload_n 0, 1) := dk_42 (dk_at dksX6_readsPart_0 0 rfl rfl)
theorem dX6_readsPart_1 : decode cX6_readsPart 1 = .ok (.invokevirtual 259, 3) := dk_182 1 3 (dk_at dksX6_readsPart_0 1 rfl rfl)
theorem dX6_readsPart_4 : decode cX6_readsPart 4 = .ok (.istore_n 1, 1) := dk_60 (dk_at dksX6_readsPart_0 4 rfl rfl)
theorem dX6_readsPart_5 : decode cX6_readsPart 5 = .ok (.iload_n 1, 1) := dk_27 (dk_at dksX6_readsPart_0 5 rfl rfl)
theorem dX6_readsPart_6 : decode cX6_readsPart 6 = .ok (.bipush 48, 2) := dk_16 48 (dk_at dksX6_readsPart_0 6 rfl rfl)
theorem dX6_readsPart_8 : decode cX6_readsPart 8 = .ok (.bipush 57, 2) := dk_16 57 (dk_at dksX6_readsPart_0 8 rfl rfl)
theorem dX6_readsPart_10 : decode cX6_readsPart 10 = .ok (.invokestatic 213, 3) := dk_184 0 213 (dk_at dksX6_readsPart_0 10 rfl rfl)
theorem dX6_readsPart_13 : decode cX6_readsPart 13 = .ok (.ifCond .eq 8, 3) := dk_153 0 8 (dk_at dksX6_readsPart_0 13 rfl rfl)
theorem dX6_readsPart_16 : decode cX6_readsPart 16 = .ok (.aload_n 0, 1) := dk_42 (dk_at dksX6_readsPart_0 16 rfl rfl)
theorem dX6_readsPart_17 : decode cX6_readsPart 17 = .ok (.invokevirtual 281, 3) := dk_182 1 25 (dk_at dksX6_readsPart_0 17 rfl rfl)
theorem dX6_readsPart_20 : decode cX6_readsPart 20 = .ok (.ireturn, 1) := dk_172 (dk_at dksX6_readsPart_0 20 rfl rfl)
theorem dX6_readsPart_21 : decode cX6_readsPart 21 = .ok (.iload_n 1, 1) := dk_27 (dk_at dksX6_readsPart_0 21 rfl rfl)
theorem dX6_readsPart_22 : decode cX6_readsPart 22 = .ok (.bipush 63, 2) := dk_16 63 (dk_at dksX6_readsPart_0 22 rfl rfl)
theorem dX6_readsPart_24 : decode cX6_readsPart 24 = .ok (.if_icmp .ne 13, 3) := dk_160 0 13 (dk_at dksX6_readsPart_1 0 rfl rfl)
theorem dX6_readsPart_27 : decode cX6_readsPart 27 = .ok (.aload_n 0, 1) := dk_42 (dk_at dksX6_readsPart_1 3 rfl rfl)
theorem dX6_readsPart_28 : decode cX6_readsPart 28 = .ok (.iconst 1, 1) := dk_4 (dk_at dksX6_readsPart_1 4 rfl rfl)
theorem dX6_readsPart_29 : decode cX6_readsPart 29 = .ok (.iconst 0, 1) := dk_3 (dk_at dksX6_readsPart_1 5 rfl rfl)
theorem dX6_readsPart_30 : decode cX6_readsPart 30 = .ok (.invokevirtual 275, 3) := dk_182 1 19 (dk_at dksX6_readsPart_1 6 rfl rfl)
theorem dX6_readsPart_33 : decode cX6_readsPart 33 = .ok (.pop, 1) := dk_87 (dk_at dksX6_readsPart_1 9 rfl rfl)
theorem dX6_readsPart_34 : decode cX6_readsPart 34 = .ok (.goto 44, 3) := dk_167 0 44 (dk_at dksX6_readsPart_1 10 rfl rfl)
theorem dX6_readsPart_37 : decode cX6_readsPart 37 = .ok (.iload_n 1, 1) := dk_27 (dk_at dksX6_readsPart_1 13 rfl rfl)
theorem dX6_readsPart_38 : decode cX6_readsPart 38 = .ok (.bipush 40, 2) := dk_16 40 (dk_at dksX6_readsPart_1 14 rfl rfl)
theorem dX6_readsPart_40 : decode cX6_readsPart 40 = .ok (.if_icmp .eq 9, 3) := dk_159 0 9 (dk_at dksX6_readsPart_1 16 rfl rfl)
theorem dX6_readsPart_43 : decode cX6_readsPart 43 = .ok (.iload_n 1, 1) := dk_27 (dk_at dksX6_readsPart_1 19 rfl rfl)
theorem dX6_readsPart_44 : decode cX6_readsPart 44 = .ok (.bipush 91, 2) := dk_16 91 (dk_at dksX6_readsPart_1 20 rfl rfl)
theorem dX6_readsPart_46 : decode cX6_readsPart 46 = .ok (.if_icmp .ne 30, 3) := dk_160 0 30 (dk_at dksX6_readsPart_2 0 rfl rfl)
theorem dX6_readsPart_49 : decode cX6_readsPart 49 = .ok (.iload_n 1, 1) := dk_27 (dk_at dksX6_readsPart_2 3 rfl rfl)
theorem dX6_readsPart_50 : decode cX6_readsPart 50 = .ok (.bipush 40, 2) := dk_16 40 (dk_at dksX6_readsPart_2 4 rfl rfl)
theorem dX6_readsPart_52 : decode cX6_readsPart 52 = .ok (.if_icmp .ne 7, 3) := dk_160 0 7 (dk_at dksX6_readsPart_2 6 rfl rfl)
theorem dX6_readsPart_55 : decode cX6_readsPart 55 = .ok (.iconst 2, 1) := dk_5 (dk_at dksX6_readsPart_2 9 rfl rfl)
theorem dX6_readsPart_56 : decode cX6_readsPart 56 = .ok (.goto 4, 3) := dk_167 0 4 (dk_at dksX6_readsPart_2 10 rfl rfl)
theorem dX6_readsPart_59 : decode cX6_readsPart 59 = .ok (.iconst 3, 1) := dk_6 (dk_at dksX6_readsPart_2 13 rfl rfl)
theorem dX6_readsPart_60 : decode cX6_readsPart 60 = .ok (.istore_n 2, 1) := dk_61 (dk_at dksX6_readsPart_2 14 rfl rfl)
theorem dX6_readsPart_61 : decode cX6_readsPart 61 = .ok (.aload_n 0, 1) := dk_42 (dk_at dksX6_readsPart_2 15 rfl rfl)
theorem dX6_readsPart_62 : decode cX6_readsPart 62 = .ok (.aload_n 0, 1) := dk_42 (dk_at dksX6_readsPart_2 16 rfl rfl)
theorem dX6_readsPart_63 : decode cX6_readsPart 63 = .ok (.iload_n 2, 1) := dk_28 (dk_at dksX6_readsPart_2 17 rfl rfl)
theorem dX6_readsPart_64 : decode cX6_readsPart 64 = .ok (.iconst 0, 1) := dk_3 (dk_at dksX6_readsPart_2 18 rfl rfl)
theorem dX6_readsPart_65 : decode cX6_readsPart 65 = .ok (.invokevirtual 275, 3) := dk_182 1 19 (dk_at dksX6_readsPart_2 19 rfl rfl)
theorem dX6_readsPart_68 : decode cX6_readsPart 68 = .ok (.iload_n 2, 1) := dk_28 (dk_at dksX6_readsPart_2 22 rfl rfl)
theorem dX6_readsPart_69 : decode cX6_readsPart 69 = .ok (.iconst 0, 1) := dk_3 (dk_at dksX6_readsPart_2 23 rfl rfl)
theorem dX6_readsPart_70 : decode cX6_readsPart 70 = .ok (.invokevirtual 285, 3) := dk_182 1 29 (dk_at dksX6_readsPart_3 0 rfl rfl)
theorem dX6_readsPart_73 : decode cX6_readsPart 73 = .ok (.goto 5, 3) := dk_167 0 5 (dk_at dksX6_readsPart_3 3 rfl rfl)
theorem dX6_readsPart_76 : decode cX6_readsPart 76 = .ok (.iconst 0, 1) := dk_3 (dk_at dksX6_readsPart_3 6 rfl rfl)
theorem dX6_readsPart_77 : decode cX6_readsPart 77 = .ok (.ireturn, 1) := dk_172 (dk_at dksX6_readsPart_3 7 rfl rfl)
theorem dX6_readsPart_78 : decode cX6_readsPart 78 = .ok (.aload_n 0, 1) := dk_42 (dk_at dksX6_readsPart_3 8 rfl rfl)
theorem dX6_readsPart_79 : decode cX6_readsPart 79 = .ok (.dup, 1) := dk_89 (dk_at dksX6_readsPart_3 9 rfl rfl)
theorem dX6_readsPart_80 : decode cX6_readsPart 80 = .ok (.getfield 256, 3) := dk_180 1 0 (dk_at dksX6_readsPart_3 10 rfl rfl)
theorem dX6_readsPart_83 : decode cX6_readsPart 83 = .ok (.iconst 1, 1) := dk_4 (dk_at dksX6_readsPart_3 13 rfl rfl)
theorem dX6_readsPart_84 : decode cX6_readsPart 84 = .ok (.iadd, 1) := dk_96 (dk_at dksX6_readsPart_3 14 rfl rfl)
theorem dX6_readsPart_85 : decode cX6_readsPart 85 = .ok (.putfield 256, 3) := dk_181 1 0 (dk_at dksX6_readsPart_3 15 rfl rfl)
theorem dX6_readsPart_88 : decode cX6_readsPart 88 = .ok (.iconst 1, 1) := dk_4 (dk_at dksX6_readsPart_3 18 rfl rfl)
theorem dX6_readsPart_89 : decode cX6_readsPart 89 = .ok (.ireturn, 1) := dk_172 (dk_at dksX6_readsPart_3 19 rfl rfl)
abbrev cX6_sign : ByteArray := prog_25_method_42_code
def yX6_sign : MethodName := ⟨RX6, "sign", "()I"⟩
def dkwX6_sign_1 : List UInt8 := [172]
abbrev dktX6_sign_1 : List UInt8 := dkwX6_sign_1 ++ []
def dkwX6_sign_0 : List UInt8 := [42, 180, 1, 0, 42, 180, 0, 250, 162, 0, 15, 42, 180, 0, 94, 42, 180, 1, 0, 46, 167, 0, 4, 2]
abbrev dktX6_sign_0 : List UInt8 := dkwX6_sign_0 ++ dktX6_sign_1
theorem dksX6_sign_0 : cX6_sign.data.toList.drop 0 = dktX6_sign_0 := by decide +kernel
theorem dksX6_sign_1 : cX6_sign.data.toList.drop 24 = dktX6_sign_1 := dk_seg dksX6_sign_0 24 rfl rfl
theorem dX6_sign_0 : decode cX6_sign 0 = .ok (.aload_n 0, 1) := dk_42 (dk_at dksX6_sign_0 0 rfl rfl)
theorem dX6_sign_1 : decode cX6_sign 1 = .ok (.getfield 256, 3) := dk_180 1 0 (dk_at dksX6_sign_0 1 rfl rfl)
theorem dX6_sign_4 : decode cX6_sign 4 = .ok (.aload_n 0, 1) := dk_42 (dk_at dksX6_sign_0 4 rfl rfl)
theorem dX6_sign_5 : decode cX6_sign 5 = .ok (.getfield 250, 3) := dk_180 0 250 (dk_at dksX6_sign_0 5 rfl rfl)
theorem dX6_sign_8 : decode cX6_sign 8 = .ok (.if_icmp .ge 15, 3) := dk_162 0 15 (dk_at dksX6_sign_0 8 rfl rfl)
theorem dX6_sign_11 : decode cX6_sign 11 = .ok (.aload_n 0, 1) := dk_42 (dk_at dksX6_sign_0 11 rfl rfl)
theorem dX6_sign_12 : decode cX6_sign 12 = .ok (.getfield 94, 3) := dk_180 0 94 (dk_at dksX6_sign_0 12 rfl rfl)
theorem dX6_sign_15 : decode cX6_sign 15 = .ok (.aload_n 0, 1) := dk_42 (dk_at dksX6_sign_0 15 rfl rfl)
theorem dX6_sign_16 : decode cX6_sign 16 = .ok (.getfield 256, 3) := dk_180 1 0 (dk_at dksX6_sign_0 16 rfl rfl)
theorem dX6_sign_19 : decode cX6_sign 19 = .ok (.iaload, 1) := dk_46 (dk_at dksX6_sign_0 19 rfl rfl)
theorem dX6_sign_20 : decode cX6_sign 20 = .ok (.goto 4, 3) := dk_167 0 4 (dk_at dksX6_sign_0 20 rfl rfl)
theorem dX6_sign_23 : decode cX6_sign 23 = .ok (.iconst (-1), 1) := dk_2 (dk_at dksX6_sign_0 23 rfl rfl)
theorem dX6_sign_24 : decode cX6_sign 24 = .ok (.ireturn, 1) := dk_172 (dk_at dksX6_sign_1 0 rfl rfl)
abbrev cX6_isIn : ByteArray := prog_25_method_4_code
def yX6_isIn : MethodName := ⟨RX6, "isIn", "(III)Z"⟩
def dkwX6_isIn_0 : List UInt8 := [26, 27, 161, 0, 12, 26, 28, 163, 0, 7, 4, 167, 0, 4, 3, 172]
abbrev dktX6_isIn_0 : List UInt8 := dkwX6_isIn_0 ++ []
theorem dksX6_isIn_0 : cX6_isIn.data.toList.drop 0 = dktX6_isIn_0 := by decide +kernel
theorem dX6_isIn_0 : decode cX6_isIn 0 = .ok (.iload_n 0, 1) := dk_26 (dk_at dksX6_isIn_0 0 rfl rfl)
theorem dX6_isIn_1 : decode cX6_isIn 1 = .ok (.iload_n 1, 1) := dk_27 (dk_at dksX6_isIn_0 1 rfl rfl)
theorem dX6_isIn_2 : decode cX6_isIn 2 = .ok (.if_icmp .lt 12, 3) := dk_161 0 12 (dk_at dksX6_isIn_0 2 rfl rfl)
theorem dX6_isIn_5 : decode cX6_isIn 5 = .ok (.iload_n 0, 1) := dk_26 (dk_at dksX6_isIn_0 5 rfl rfl)
theorem dX6_isIn_6 : decode cX6_isIn 6 = .ok (.iload_n 2, 1) := dk_28 (dk_at dksX6_isIn_0 6 rfl rfl)
theorem dX6_isIn_7 : decode cX6_isIn 7 = .ok (.if_icmp .gt 7, 3) := dk_163 0 7 (dk_at dksX6_isIn_0 7 rfl rfl)
theorem dX6_isIn_10 : decode cX6_isIn 10 = .ok (.iconst 1, 1) := dk_4 (dk_at dksX6_isIn_0 10 rfl rfl)
theorem dX6_isIn_11 : decode cX6_isIn 11 = .ok (.goto 4, 3) := dk_167 0 4 (dk_at dksX6_isIn_0 11 rfl rfl)
theorem dX6_isIn_14 : decode cX6_isIn 14 = .ok (.iconst 0, 1) := dk_3 (dk_at dksX6_isIn_0 14 rfl rfl)
theorem dX6_isIn_15 : decode cX6_isIn 15 = .ok (.ireturn, 1) := dk_172 (dk_at dksX6_isIn_0 15 rfl rfl)
abbrev cX6_readsNumber : ByteArray := prog_25_method_49_code
def yX6_readsNumber : MethodName := ⟨RX6, "readsNumber", "()Z"⟩
def dkwX6_readsNumber_1 : List UInt8 := [155, 0, 20, 42, 180, 0, 16, 27, 16, 10, 42, 180, 0, 16, 27, 46, 104, 28, 96, 79, 4, 172]
abbrev dktX6_readsNumber_1 : List UInt8 := dkwX6_readsNumber_1 ++ []
def dkwX6_readsNumber_0 : List UInt8 := [42, 3, 3, 182, 1, 19, 60, 42, 180, 0, 16, 27, 42, 182, 1, 22, 79, 42, 182, 1, 22, 61, 28]
abbrev dktX6_readsNumber_0 : List UInt8 := dkwX6_readsNumber_0 ++ dktX6_readsNumber_1
theorem dksX6_readsNumber_0 : cX6_readsNumber.data.toList.drop 0 = dktX6_readsNumber_0 := by decide +kernel
theorem dksX6_readsNumber_1 : cX6_readsNumber.data.toList.drop 23 = dktX6_readsNumber_1 := dk_seg dksX6_readsNumber_0 23 rfl rfl
theorem dX6_readsNumber_0 : decode cX6_readsNumber 0 = .ok (.aload_n 0, 1) := dk_42 (dk_at dksX6_readsNumber_0 0 rfl rfl)
theorem dX6_readsNumber_1 : decode cX6_readsNumber 1 = .ok (.iconst 0, 1) := dk_3 (dk_at dksX6_readsNumber_0 1 rfl rfl)
theorem dX6_readsNumber_2 : decode cX6_readsNumber 2 = .ok (.iconst 0, 1) := dk_3 (dk_at dksX6_readsNumber_0 2 rfl rfl)
theorem dX6_readsNumber_3 : decode cX6_readsNumber 3 = .ok (.invokevirtual 275, 3) := dk_182 1 19 (dk_at dksX6_readsNumber_0 3 rfl rfl)
theorem dX6_readsNumber_6 : decode cX6_readsNumber 6 = .ok (.istore_n 1, 1) := dk_60 (dk_at dksX6_readsNumber_0 6 rfl rfl)
theorem dX6_readsNumber_7 : decode cX6_readsNumber 7 = .ok (.aload_n 0, 1) := dk_42 (dk_at dksX6_readsNumber_0 7 rfl rfl)
theorem dX6_readsNumber_8 : decode cX6_readsNumber 8 = .ok (.getfield 16, 3) := dk_180 0 16 (dk_at dksX6_readsNumber_0 8 rfl rfl)
theorem dX6_readsNumber_11 : decode cX6_readsNumber 11 = .ok (.iload_n 1, 1) := dk_27 (dk_at dksX6_readsNumber_0 11 rfl rfl)
theorem dX6_readsNumber_12 : decode cX6_readsNumber 12 = .ok (.aload_n 0, 1) := dk_42 (dk_at dksX6_readsNumber_0 12 rfl rfl)
theorem dX6_readsNumber_13 : decode cX6_readsNumber 13 = .ok (.invokevirtual 278, 3) := dk_182 1 22 (dk_at dksX6_readsNumber_0 13 rfl rfl)
theorem dX6_readsNumber_16 : decode cX6_readsNumber 16 = .ok (.iastore, 1) := dk_79 (dk_at dksX6_readsNumber_0 16 rfl rfl)
theorem dX6_readsNumber_17 : decode cX6_readsNumber 17 = .ok (.aload_n 0, 1) := dk_42 (dk_at dksX6_readsNumber_0 17 rfl rfl)
theorem dX6_readsNumber_18 : decode cX6_readsNumber 18 = .ok (.invokevirtual 278, 3) := dk_182 1 22 (dk_at dksX6_readsNumber_0 18 rfl rfl)
theorem dX6_readsNumber_21 : decode cX6_readsNumber 21 = .ok (.istore_n 2, 1) := dk_61 (dk_at dksX6_readsNumber_0 21 rfl rfl)
theorem dX6_readsNumber_22 : decode cX6_readsNumber 22 = .ok (.iload_n 2, 1) := dk_28 (dk_at dksX6_readsNumber_0 22 rfl rfl)
theorem dX6_readsNumber_23 : decode cX6_readsNumber 23 = .ok (.ifCond .lt 20, 3) := dk_155 0 20 (dk_at dksX6_readsNumber_1 0 rfl rfl)
theorem dX6_readsNumber_26 : decode cX6_readsNumber 26 = .ok (.aload_n 0, 1) := dk_42 (dk_at dksX6_readsNumber_1 3 rfl rfl)
theorem dX6_readsNumber_27 : decode cX6_readsNumber 27 = .ok (.getfield 16, 3) := dk_180 0 16 (dk_at dksX6_readsNumber_1 4 rfl rfl)
theorem dX6_readsNumber_30 : decode cX6_readsNumber 30 = .ok (.iload_n 1, 1) := dk_27 (dk_at dksX6_readsNumber_1 7 rfl rfl)
theorem dX6_readsNumber_31 : decode cX6_readsNumber 31 = .ok (.bipush 10, 2) := dk_16 10 (dk_at dksX6_readsNumber_1 8 rfl rfl)
theorem dX6_readsNumber_33 : decode cX6_readsNumber 33 = .ok (.aload_n 0, 1) := dk_42 (dk_at dksX6_readsNumber_1 10 rfl rfl)
theorem dX6_readsNumber_34 : decode cX6_readsNumber 34 = .ok (.getfield 16, 3) := dk_180 0 16 (dk_at dksX6_readsNumber_1 11 rfl rfl)
theorem dX6_readsNumber_37 : decode cX6_readsNumber 37 = .ok (.iload_n 1, 1) := dk_27 (dk_at dksX6_readsNumber_1 14 rfl rfl)
theorem dX6_readsNumber_38 : decode cX6_readsNumber 38 = .ok (.iaload, 1) := dk_46 (dk_at dksX6_readsNumber_1 15 rfl rfl)
theorem dX6_readsNumber_39 : decode cX6_readsNumber 39 = .ok (.imul, 1) := dk_104 (dk_at dksX6_readsNumber_1 16 rfl rfl)
theorem dX6_readsNumber_40 : decode cX6_readsNumber 40 = .ok (.iload_n 2, 1) := dk_28 (dk_at dksX6_readsNumber_1 17 rfl rfl)
theorem dX6_readsNumber_41 : decode cX6_readsNumber 41 = .ok (.iadd, 1) := dk_96 (dk_at dksX6_readsNumber_1 18 rfl rfl)
theorem dX6_readsNumber_42 : decode cX6_readsNumber 42 = .ok (.iastore, 1) := dk_79 (dk_at dksX6_readsNumber_1 19 rfl rfl)
theorem dX6_readsNumber_43 : decode cX6_readsNumber 43 = .ok (.iconst 1, 1) := dk_4 (dk_at dksX6_readsNumber_1 20 rfl rfl)
theorem dX6_readsNumber_44 : decode cX6_readsNumber 44 = .ok (.ireturn, 1) := dk_172 (dk_at dksX6_readsNumber_1 21 rfl rfl)
abbrev cX6_beginsPart : ByteArray := prog_25_method_48_code
def yX6_beginsPart : MethodName := ⟨RX6, "beginsPart", "(II)I"⟩
def dkwX6_beginsPart_6 : List UInt8 := [89, 180, 0, 118, 4, 96, 181, 0, 118, 29, 172]
abbrev dktX6_beginsPart_6 : List UInt8 := dkwX6_beginsPart_6 ++ []
def dkwX6_beginsPart_5 : List UInt8 := [180, 0, 13, 29, 27, 79, 42, 180, 0, 16, 29, 28, 79, 42, 180, 0, 19, 29, 42, 180, 1, 16, 79, 42]
abbrev dktX6_beginsPart_5 : List UInt8 := dkwX6_beginsPart_5 ++ dktX6_beginsPart_6
def dkwX6_beginsPart_4 : List UInt8 := [42, 180, 1, 10, 158, 0, 18, 42, 180, 0, 106, 42, 180, 1, 10, 4, 100, 92, 46, 4, 96, 79, 42]
abbrev dktX6_beginsPart_4 : List UInt8 := dkwX6_beginsPart_4 ++ dktX6_beginsPart_5
def dkwX6_beginsPart_3 : List UInt8 := [162, 0, 16, 42, 180, 1, 10, 7, 163, 0, 8, 21, 4, 153, 0, 11, 42, 42, 180, 1, 0, 182, 1, 13]
abbrev dktX6_beginsPart_3 : List UInt8 := dkwX6_beginsPart_3 ++ dktX6_beginsPart_4
def dkwX6_beginsPart_2 : List UInt8 := [180, 1, 10, 4, 100, 46, 7, 161, 0, 7, 4, 167, 0, 4, 3, 54, 4, 42, 180, 0, 118, 16, 20]
abbrev dktX6_beginsPart_2 : List UInt8 := dkwX6_beginsPart_2 ++ dktX6_beginsPart_3
def dkwX6_beginsPart_1 : List UInt8 := [158, 0, 37, 42, 180, 0, 100, 42, 180, 1, 10, 4, 100, 46, 6, 160, 0, 22, 42, 180, 0, 106, 42]
abbrev dktX6_beginsPart_1 : List UInt8 := dkwX6_beginsPart_1 ++ dktX6_beginsPart_2
def dkwX6_beginsPart_0 : List UInt8 := [42, 180, 0, 118, 16, 20, 162, 0, 10, 42, 180, 0, 118, 167, 0, 5, 16, 20, 62, 42, 180, 1, 10]
abbrev dktX6_beginsPart_0 : List UInt8 := dkwX6_beginsPart_0 ++ dktX6_beginsPart_1
theorem dksX6_beginsPart_0 : cX6_beginsPart.data.toList.drop 0 = dktX6_beginsPart_0 := by decide +kernel
theorem dksX6_beginsPart_1 : cX6_beginsPart.data.toList.drop 23 = dktX6_beginsPart_1 := dk_seg dksX6_beginsPart_0 23 rfl rfl
theorem dksX6_beginsPart_2 : cX6_beginsPart.data.toList.drop 46 = dktX6_beginsPart_2 := dk_seg dksX6_beginsPart_1 23 rfl rfl
theorem dksX6_beginsPart_3 : cX6_beginsPart.data.toList.drop 69 = dktX6_beginsPart_3 := dk_seg dksX6_beginsPart_2 23 rfl rfl
theorem dksX6_beginsPart_4 : cX6_beginsPart.data.toList.drop 93 = dktX6_beginsPart_4 := dk_seg dksX6_beginsPart_3 24 rfl rfl
theorem dksX6_beginsPart_5 : cX6_beginsPart.data.toList.drop 116 = dktX6_beginsPart_5 := dk_seg dksX6_beginsPart_4 23 rfl rfl
theorem dksX6_beginsPart_6 : cX6_beginsPart.data.toList.drop 140 = dktX6_beginsPart_6 := dk_seg dksX6_beginsPart_5 24 rfl rfl
theorem dX6_beginsPart_0 : decode cX6_beginsPart 0 = .ok (.aload_n 0, 1) := dk_42 (dk_at dksX6_beginsPart_0 0 rfl rfl)
theorem dX6_beginsPart_1 : decode cX6_beginsPart 1 = .ok (.getfield 118, 3) := dk_180 0 118 (dk_at dksX6_beginsPart_0 1 rfl rfl)
theorem dX6_beginsPart_4 : decode cX6_beginsPart 4 = .ok (.bipush 20, 2) := dk_16 20 (dk_at dksX6_beginsPart_0 4 rfl rfl)
theorem dX6_beginsPart_6 : decode cX6_beginsPart 6 = .ok (.if_icmp .ge 10, 3) := dk_162 0 10 (dk_at dksX6_beginsPart_0 6 rfl rfl)
theorem dX6_beginsPart_9 : decode cX6_beginsPart 9 = .ok (.aload_n 0, 1) := dk_42 (dk_at dksX6_beginsPart_0 9 rfl rfl)
theorem dX6_beginsPart_10 : decode cX6_beginsPart 10 = .ok (.getfield 118, 3) := dk_180 0 118 (dk_at dksX6_beginsPart_0 10 rfl rfl)
theorem dX6_beginsPart_13 : decode cX6_beginsPart 13 = .ok (.goto 5, 3) := dk_167 0 5 (dk_at dksX6_beginsPart_0 13 rfl rfl)
theorem dX6_beginsPart_16 : decode cX6_beginsPart 16 = .ok (.bipush 20, 2) := dk_16 20 (dk_at dksX6_beginsPart_0 16 rfl rfl)
theorem dX6_beginsPart_18 : decode cX6_beginsPart 18 = .ok (.istore_n 3, 1) := dk_62 (dk_at dksX6_beginsPart_0 18 rfl rfl)
theorem dX6_beginsPart_19 : decode cX6_beginsPart 19 = .ok (.aload_n 0, 1) := dk_42 (dk_at dksX6_beginsPart_0 19 rfl rfl)
theorem dX6_beginsPart_20 : decode cX6_beginsPart 20 = .ok (.getfield 266, 3) := dk_180 1 10 (dk_at dksX6_beginsPart_0 20 rfl rfl)
theorem dX6_beginsPart_23 : decode cX6_beginsPart 23 = .ok (.ifCond .le 37, 3) := dk_158 0 37 (dk_at dksX6_beginsPart_1 0 rfl rfl)
theorem dX6_beginsPart_26 : decode cX6_beginsPart 26 = .ok (.aload_n 0, 1) := dk_42 (dk_at dksX6_beginsPart_1 3 rfl rfl)
theorem dX6_beginsPart_27 : decode cX6_beginsPart 27 = .ok (.getfield 100, 3) := dk_180 0 100 (dk_at dksX6_beginsPart_1 4 rfl rfl)
theorem dX6_beginsPart_30 : decode cX6_beginsPart 30 = .ok (.aload_n 0, 1) := dk_42 (dk_at dksX6_beginsPart_1 7 rfl rfl)
theorem dX6_beginsPart_31 : decode cX6_beginsPart 31 = .ok (.getfield 266, 3) := dk_180 1 10 (dk_at dksX6_beginsPart_1 8 rfl rfl)
theorem dX6_beginsPart_34 : decode cX6_beginsPart 34 = .ok (.iconst 1, 1) := dk_4 (dk_at dksX6_beginsPart_1 11 rfl rfl)
theorem dX6_beginsPart_35 : decode cX6_beginsPart 35 = .ok (.isub, 1) := dk_100 (dk_at dksX6_beginsPart_1 12 rfl rfl)
theorem dX6_beginsPart_36 : decode cX6_beginsPart 36 = .ok (.iaload, 1) := dk_46 (dk_at dksX6_beginsPart_1 13 rfl rfl)
theorem dX6_beginsPart_37 : decode cX6_beginsPart 37 = .ok (.iconst 3, 1) := dk_6 (dk_at dksX6_beginsPart_1 14 rfl rfl)
theorem dX6_beginsPart_38 : decode cX6_beginsPart 38 = .ok (.if_icmp .ne 22, 3) := dk_160 0 22 (dk_at dksX6_beginsPart_1 15 rfl rfl)
theorem dX6_beginsPart_41 : decode cX6_beginsPart 41 = .ok (.aload_n 0, 1) := dk_42 (dk_at dksX6_beginsPart_1 18 rfl rfl)
theorem dX6_beginsPart_42 : decode cX6_beginsPart 42 = .ok (.getfield 106, 3) := dk_180 0 106 (dk_at dksX6_beginsPart_1 19 rfl rfl)
theorem dX6_beginsPart_45 : decode cX6_beginsPart 45 = .ok (.aload_n 0, 1) := dk_42 (dk_at dksX6_beginsPart_1 22 rfl rfl)
theorem dX6_beginsPart_46 : decode cX6_beginsPart 46 = .ok (.getfield 266, 3) := dk_180 1 10 (dk_at dksX6_beginsPart_2 0 rfl rfl)
theorem dX6_beginsPart_49 : decode cX6_beginsPart 49 = .ok (.iconst 1, 1) := dk_4 (dk_at dksX6_beginsPart_2 3 rfl rfl)
theorem dX6_beginsPart_50 : decode cX6_beginsPart 50 = .ok (.isub, 1) := dk_100 (dk_at dksX6_beginsPart_2 4 rfl rfl)
theorem dX6_beginsPart_51 : decode cX6_beginsPart 51 = .ok (.iaload, 1) := dk_46 (dk_at dksX6_beginsPart_2 5 rfl rfl)
theorem dX6_beginsPart_52 : decode cX6_beginsPart 52 = .ok (.iconst 4, 1) := dk_7 (dk_at dksX6_beginsPart_2 6 rfl rfl)
theorem dX6_beginsPart_53 : decode cX6_beginsPart 53 = .ok (.if_icmp .lt 7, 3) := dk_161 0 7 (dk_at dksX6_beginsPart_2 7 rfl rfl)
theorem dX6_beginsPart_56 : decode cX6_beginsPart 56 = .ok (.iconst 1, 1) := dk_4 (dk_at dksX6_beginsPart_2 10 rfl rfl)
theorem dX6_beginsPart_57 : decode cX6_beginsPart 57 = .ok (.goto 4, 3) := dk_167 0 4 (dk_at dksX6_beginsPart_2 11 rfl rfl)
theorem dX6_beginsPart_60 : decode cX6_beginsPart 60 = .ok (.iconst 0, 1) := dk_3 (dk_at dksX6_beginsPart_2 14 rfl rfl)
theorem dX6_beginsPart_61 : decode cX6_beginsPart 61 = .ok (.istore 4, 2) := dk_54 4 (dk_at dksX6_beginsPart_2 15 rfl rfl)
theorem dX6_beginsPart_63 : decode cX6_beginsPart 63 = .ok (.aload_n 0, 1) := dk_42 (dk_at dksX6_beginsPart_2 17 rfl rfl)
theorem dX6_beginsPart_64 : decode cX6_beginsPart 64 = .ok (.getfield 118, 3) := dk_180 0 118 (dk_at dksX6_beginsPart_2 18 rfl rfl)
theorem dX6_beginsPart_67 : decode cX6_beginsPart 67 = .ok (.bipush 20, 2) := dk_16 20 (dk_at dksX6_beginsPart_2 21 rfl rfl)
theorem dX6_beginsPart_69 : decode cX6_beginsPart 69 = .ok (.if_icmp .ge 16, 3) := dk_162 0 16 (dk_at dksX6_beginsPart_3 0 rfl rfl)
theorem dX6_beginsPart_72 : decode cX6_beginsPart 72 = .ok (.aload_n 0, 1) := dk_42 (dk_at dksX6_beginsPart_3 3 rfl rfl)
theorem dX6_beginsPart_73 : decode cX6_beginsPart 73 = .ok (.getfield 266, 3) := dk_180 1 10 (dk_at dksX6_beginsPart_3 4 rfl rfl)
theorem dX6_beginsPart_76 : decode cX6_beginsPart 76 = .ok (.iconst 4, 1) := dk_7 (dk_at dksX6_beginsPart_3 7 rfl rfl)
theorem dX6_beginsPart_77 : decode cX6_beginsPart 77 = .ok (.if_icmp .gt 8, 3) := dk_163 0 8 (dk_at dksX6_beginsPart_3 8 rfl rfl)
theorem dX6_beginsPart_80 : decode cX6_beginsPart 80 = .ok (.iload 4, 2) := dk_21 4 (dk_at dksX6_beginsPart_3 11 rfl rfl)
theorem dX6_beginsPart_82 : decode cX6_beginsPart 82 = .ok (.ifCond .eq 11, 3) := dk_153 0 11 (dk_at dksX6_beginsPart_3 13 rfl rfl)
theorem dX6_beginsPart_85 : decode cX6_beginsPart 85 = .ok (.aload_n 0, 1) := dk_42 (dk_at dksX6_beginsPart_3 16 rfl rfl)
theorem dX6_beginsPart_86 : decode cX6_beginsPart 86 = .ok (.aload_n 0, 1) := dk_42 (dk_at dksX6_beginsPart_3 17 rfl rfl)
theorem dX6_beginsPart_87 : decode cX6_beginsPart 87 = .ok (.getfield 256, 3) := dk_180 1 0 (dk_at dksX6_beginsPart_3 18 rfl rfl)
theorem dX6_beginsPart_90 : decode cX6_beginsPart 90 = .ok (.invokevirtual 269, 3) := dk_182 1 13 (dk_at dksX6_beginsPart_3 21 rfl rfl)
theorem dX6_beginsPart_93 : decode cX6_beginsPart 93 = .ok (.aload_n 0, 1) := dk_42 (dk_at dksX6_beginsPart_4 0 rfl rfl)
theorem dX6_beginsPart_94 : decode cX6_beginsPart 94 = .ok (.getfield 266, 3) := dk_180 1 10 (dk_at dksX6_beginsPart_4 1 rfl rfl)
theorem dX6_beginsPart_97 : decode cX6_beginsPart 97 = .ok (.ifCond .le 18, 3) := dk_158 0 18 (dk_at dksX6_beginsPart_4 4 rfl rfl)
theorem dX6_beginsPart_100 : decode cX6_beginsPart 100 = .ok (.aload_n 0, 1) := dk_42 (dk_at dksX6_beginsPart_4 7 rfl rfl)
theorem dX6_beginsPart_101 : decode cX6_beginsPart 101 = .ok (.getfield 106, 3) := dk_180 0 106 (dk_at dksX6_beginsPart_4 8 rfl rfl)
theorem dX6_beginsPart_104 : decode cX6_beginsPart 104 = .ok (.aload_n 0, 1) := dk_42 (dk_at dksX6_beginsPart_4 11 rfl rfl)
theorem dX6_beginsPart_105 : decode cX6_beginsPart 105 = .ok (.getfield 266, 3) := dk_180 1 10 (dk_at dksX6_beginsPart_4 12 rfl rfl)
theorem dX6_beginsPart_108 : decode cX6_beginsPart 108 = .ok (.iconst 1, 1) := dk_4 (dk_at dksX6_beginsPart_4 15 rfl rfl)
theorem dX6_beginsPart_109 : decode cX6_beginsPart 109 = .ok (.isub, 1) := dk_100 (dk_at dksX6_beginsPart_4 16 rfl rfl)
theorem dX6_beginsPart_110 : decode cX6_beginsPart 110 = .ok (.dup2, 1) := dk_92 (dk_at dksX6_beginsPart_4 17 rfl rfl)
theorem dX6_beginsPart_111 : decode cX6_beginsPart 111 = .ok (.iaload, 1) := dk_46 (dk_at dksX6_beginsPart_4 18 rfl rfl)
theorem dX6_beginsPart_112 : decode cX6_beginsPart 112 = .ok (.iconst 1, 1) := dk_4 (dk_at dksX6_beginsPart_4 19 rfl rfl)
theorem dX6_beginsPart_113 : decode cX6_beginsPart 113 = .ok (.iadd, 1) := dk_96 (dk_at dksX6_beginsPart_4 20 rfl rfl)
theorem dX6_beginsPart_114 : decode cX6_beginsPart 114 = .ok (.iastore, 1) := dk_79 (dk_at dksX6_beginsPart_4 21 rfl rfl)
theorem dX6_beginsPart_115 : decode cX6_beginsPart 115 = .ok (.aload_n 0, 1) := dk_42 (dk_at dksX6_beginsPart_4 22 rfl rfl)
theorem dX6_beginsPart_116 : decode cX6_beginsPart 116 = .ok (.getfield 13, 3) := dk_180 0 13 (dk_at dksX6_beginsPart_5 0 rfl rfl)
theorem dX6_beginsPart_119 : decode cX6_beginsPart 119 = .ok (.iload_n 3, 1) := dk_29 (dk_at dksX6_beginsPart_5 3 rfl rfl)
theorem dX6_beginsPart_120 : decode cX6_beginsPart 120 = .ok (.iload_n 1, 1) := dk_27 (dk_at dksX6_beginsPart_5 4 rfl rfl)
theorem dX6_beginsPart_121 : decode cX6_beginsPart 121 = .ok (.iastore, 1) := dk_79 (dk_at dksX6_beginsPart_5 5 rfl rfl)
theorem dX6_beginsPart_122 : decode cX6_beginsPart 122 = .ok (.aload_n 0, 1) := dk_42 (dk_at dksX6_beginsPart_5 6 rfl rfl)
theorem dX6_beginsPart_123 : decode cX6_beginsPart 123 = .ok (.getfield 16, 3) := dk_180 0 16 (dk_at dksX6_beginsPart_5 7 rfl rfl)
theorem dX6_beginsPart_126 : decode cX6_beginsPart 126 = .ok (.iload_n 3, 1) := dk_29 (dk_at dksX6_beginsPart_5 10 rfl rfl)
theorem dX6_beginsPart_127 : decode cX6_beginsPart 127 = .ok (.iload_n 2, 1) := dk_28 (dk_at dksX6_beginsPart_5 11 rfl rfl)
theorem dX6_beginsPart_128 : decode cX6_beginsPart 128 = .ok (.iastore, 1) := dk_79 (dk_at dksX6_beginsPart_5 12 rfl rfl)
theorem dX6_beginsPart_129 : decode cX6_beginsPart 129 = .ok (.aload_n 0, 1) := dk_42 (dk_at dksX6_beginsPart_5 13 rfl rfl)
theorem dX6_beginsPart_130 : decode cX6_beginsPart 130 = .ok (.getfield 19, 3) := dk_180 0 19 (dk_at dksX6_beginsPart_5 14 rfl rfl)
theorem dX6_beginsPart_133 : decode cX6_beginsPart 133 = .ok (.iload_n 3, 1) := dk_29 (dk_at dksX6_beginsPart_5 17 rfl rfl)
theorem dX6_beginsPart_134 : decode cX6_beginsPart 134 = .ok (.aload_n 0, 1) := dk_42 (dk_at dksX6_beginsPart_5 18 rfl rfl)
theorem dX6_beginsPart_135 : decode cX6_beginsPart 135 = .ok (.getfield 272, 3) := dk_180 1 16 (dk_at dksX6_beginsPart_5 19 rfl rfl)
theorem dX6_beginsPart_138 : decode cX6_beginsPart 138 = .ok (.iastore, 1) := dk_79 (dk_at dksX6_beginsPart_5 22 rfl rfl)
theorem dX6_beginsPart_139 : decode cX6_beginsPart 139 = .ok (.aload_n 0, 1) := dk_42 (dk_at dksX6_beginsPart_5 23 rfl rfl)
theorem dX6_beginsPart_140 : decode cX6_beginsPart 140 = .ok (.dup, 1) := dk_89 (dk_at dksX6_beginsPart_6 0 rfl rfl)
theorem dX6_beginsPart_141 : decode cX6_beginsPart 141 = .ok (.getfield 118, 3) := dk_180 0 118 (dk_at dksX6_beginsPart_6 1 rfl rfl)
theorem dX6_beginsPart_144 : decode cX6_beginsPart 144 = .ok (.iconst 1, 1) := dk_4 (dk_at dksX6_beginsPart_6 4 rfl rfl)
theorem dX6_beginsPart_145 : decode cX6_beginsPart 145 = .ok (.iadd, 1) := dk_96 (dk_at dksX6_beginsPart_6 5 rfl rfl)
theorem dX6_beginsPart_146 : decode cX6_beginsPart 146 = .ok (.putfield 118, 3) := dk_181 0 118 (dk_at dksX6_beginsPart_6 6 rfl rfl)
theorem dX6_beginsPart_149 : decode cX6_beginsPart 149 = .ok (.iload_n 3, 1) := dk_29 (dk_at dksX6_beginsPart_6 9 rfl rfl)
theorem dX6_beginsPart_150 : decode cX6_beginsPart 150 = .ok (.ireturn, 1) := dk_172 (dk_at dksX6_beginsPart_6 10 rfl rfl)
abbrev cX6_isBad : ByteArray := prog_25_method_44_code
def yX6_isBad : MethodName := ⟨RX6, "isBad", "(I)V"⟩
def dkwX6_isBad_0 : List UInt8 := [42, 42, 180, 1, 7, 156, 0, 7, 27, 167, 0, 7, 42, 180, 1, 7, 181, 1, 7, 177]
abbrev dktX6_isBad_0 : List UInt8 := dkwX6_isBad_0 ++ []
theorem dksX6_isBad_0 : cX6_isBad.data.toList.drop 0 = dktX6_isBad_0 := by decide +kernel
theorem dX6_isBad_0 : decode cX6_isBad 0 = .ok (.aload_n 0, 1) := dk_42 (dk_at dksX6_isBad_0 0 rfl rfl)
theorem dX6_isBad_1 : decode cX6_isBad 1 = .ok (.aload_n 0, 1) := dk_42 (dk_at dksX6_isBad_0 1 rfl rfl)
theorem dX6_isBad_2 : decode cX6_isBad 2 = .ok (.getfield 263, 3) := dk_180 1 7 (dk_at dksX6_isBad_0 2 rfl rfl)
theorem dX6_isBad_5 : decode cX6_isBad 5 = .ok (.ifCond .ge 7, 3) := dk_156 0 7 (dk_at dksX6_isBad_0 5 rfl rfl)
theorem dX6_isBad_8 : decode cX6_isBad 8 = .ok (.iload_n 1, 1) := dk_27 (dk_at dksX6_isBad_0 8 rfl rfl)
theorem dX6_isBad_9 : decode cX6_isBad 9 = .ok (.goto 7, 3) := dk_167 0 7 (dk_at dksX6_isBad_0 9 rfl rfl)
theorem dX6_isBad_12 : decode cX6_isBad 12 = .ok (.aload_n 0, 1) := dk_42 (dk_at dksX6_isBad_0 12 rfl rfl)
theorem dX6_isBad_13 : decode cX6_isBad 13 = .ok (.getfield 263, 3) := dk_180 1 7 (dk_at dksX6_isBad_0 13 rfl rfl)
theorem dX6_isBad_16 : decode cX6_isBad 16 = .ok (.putfield 263, 3) := dk_181 1 7 (dk_at dksX6_isBad_0 16 rfl rfl)
theorem dX6_isBad_19 : decode cX6_isBad 19 = .ok (.return_, 1) := dk_177 (dk_at dksX6_isBad_0 19 rfl rfl)
abbrev cX6_digit : ByteArray := prog_25_method_45_code
def yX6_digit : MethodName := ⟨RX6, "digit", "()I"⟩
def dkwX6_digit_1 : List UInt8 := [181, 1, 0, 42, 180, 0, 94, 42, 180, 1, 0, 4, 100, 46, 16, 48, 100, 172]
abbrev dktX6_digit_1 : List UInt8 := dkwX6_digit_1 ++ []
def dkwX6_digit_0 : List UInt8 := [42, 182, 1, 3, 16, 48, 16, 57, 184, 0, 213, 154, 0, 6, 16, 247, 172, 42, 89, 180, 1, 0, 4, 96]
abbrev dktX6_digit_0 : List UInt8 := dkwX6_digit_0 ++ dktX6_digit_1
theorem dksX6_digit_0 : cX6_digit.data.toList.drop 0 = dktX6_digit_0 := by decide +kernel
theorem dksX6_digit_1 : cX6_digit.data.toList.drop 24 = dktX6_digit_1 := dk_seg dksX6_digit_0 24 rfl rfl
theorem dX6_digit_0 : decode cX6_digit 0 = .ok (.aload_n 0, 1) := dk_42 (dk_at dksX6_digit_0 0 rfl rfl)
theorem dX6_digit_1 : decode cX6_digit 1 = .ok (.invokevirtual 259, 3) := dk_182 1 3 (dk_at dksX6_digit_0 1 rfl rfl)
theorem dX6_digit_4 : decode cX6_digit 4 = .ok (.bipush 48, 2) := dk_16 48 (dk_at dksX6_digit_0 4 rfl rfl)
theorem dX6_digit_6 : decode cX6_digit 6 = .ok (.bipush 57, 2) := dk_16 57 (dk_at dksX6_digit_0 6 rfl rfl)
theorem dX6_digit_8 : decode cX6_digit 8 = .ok (.invokestatic 213, 3) := dk_184 0 213 (dk_at dksX6_digit_0 8 rfl rfl)
theorem dX6_digit_11 : decode cX6_digit 11 = .ok (.ifCond .ne 6, 3) := dk_154 0 6 (dk_at dksX6_digit_0 11 rfl rfl)
theorem dX6_digit_14 : decode cX6_digit 14 = .ok (.bipush (-9), 2) := dk_16 247 (dk_at dksX6_digit_0 14 rfl rfl)
theorem dX6_digit_16 : decode cX6_digit 16 = .ok (.ireturn, 1) := dk_172 (dk_at dksX6_digit_0 16 rfl rfl)
theorem dX6_digit_17 : decode cX6_digit 17 = .ok (.aload_n 0, 1) := dk_42 (dk_at dksX6_digit_0 17 rfl rfl)
theorem dX6_digit_18 : decode cX6_digit 18 = .ok (.dup, 1) := dk_89 (dk_at dksX6_digit_0 18 rfl rfl)
theorem dX6_digit_19 : decode cX6_digit 19 = .ok (.getfield 256, 3) := dk_180 1 0 (dk_at dksX6_digit_0 19 rfl rfl)
theorem dX6_digit_22 : decode cX6_digit 22 = .ok (.iconst 1, 1) := dk_4 (dk_at dksX6_digit_0 22 rfl rfl)
theorem dX6_digit_23 : decode cX6_digit 23 = .ok (.iadd, 1) := dk_96 (dk_at dksX6_digit_0 23 rfl rfl)
theorem dX6_digit_24 : decode cX6_digit 24 = .ok (.putfield 256, 3) := dk_181 1 0 (dk_at dksX6_digit_1 0 rfl rfl)
theorem dX6_digit_27 : decode cX6_digit 27 = .ok (.aload_n 0, 1) := dk_42 (dk_at dksX6_digit_1 3 rfl rfl)
theorem dX6_digit_28 : decode cX6_digit 28 = .ok (.getfield 94, 3) := dk_180 0 94 (dk_at dksX6_digit_1 4 rfl rfl)
theorem dX6_digit_31 : decode cX6_digit 31 = .ok (.aload_n 0, 1) := dk_42 (dk_at dksX6_digit_1 7 rfl rfl)
theorem dX6_digit_32 : decode cX6_digit 32 = .ok (.getfield 256, 3) := dk_180 1 0 (dk_at dksX6_digit_1 8 rfl rfl)
theorem dX6_digit_35 : decode cX6_digit 35 = .ok (.iconst 1, 1) := dk_4 (dk_at dksX6_digit_1 11 rfl rfl)
theorem dX6_digit_36 : decode cX6_digit 36 = .ok (.isub, 1) := dk_100 (dk_at dksX6_digit_1 12 rfl rfl)
theorem dX6_digit_37 : decode cX6_digit 37 = .ok (.iaload, 1) := dk_46 (dk_at dksX6_digit_1 13 rfl rfl)
theorem dX6_digit_38 : decode cX6_digit 38 = .ok (.bipush 48, 2) := dk_16 48 (dk_at dksX6_digit_1 14 rfl rfl)
theorem dX6_digit_40 : decode cX6_digit 40 = .ok (.isub, 1) := dk_100 (dk_at dksX6_digit_1 16 rfl rfl)
theorem dX6_digit_41 : decode cX6_digit 41 = .ok (.ireturn, 1) := dk_172 (dk_at dksX6_digit_1 17 rfl rfl)
abbrev cX6_opens : ByteArray := prog_25_method_47_code
def yX6_opens : MethodName := ⟨RX6, "opens", "(IIZ)V"⟩
def dkwX6_opens_2 : List UInt8 := [29, 153, 0, 7, 4, 167, 0, 4, 3, 79, 42, 89, 180, 1, 10, 4, 96, 181, 1, 10, 177]
abbrev dktX6_opens_2 : List UInt8 := dkwX6_opens_2 ++ []
def dkwX6_opens_1 : List UInt8 := [42, 180, 1, 10, 3, 79, 42, 180, 0, 106, 42, 180, 1, 10, 3, 79, 42, 180, 0, 109, 42, 180, 1, 10]
abbrev dktX6_opens_1 : List UInt8 := dkwX6_opens_1 ++ dktX6_opens_2
def dkwX6_opens_0 : List UInt8 := [42, 180, 0, 97, 42, 180, 1, 10, 27, 79, 42, 180, 0, 100, 42, 180, 1, 10, 28, 79, 42, 180, 0, 103]
abbrev dktX6_opens_0 : List UInt8 := dkwX6_opens_0 ++ dktX6_opens_1
theorem dksX6_opens_0 : cX6_opens.data.toList.drop 0 = dktX6_opens_0 := by decide +kernel
theorem dksX6_opens_1 : cX6_opens.data.toList.drop 24 = dktX6_opens_1 := dk_seg dksX6_opens_0 24 rfl rfl
theorem dksX6_opens_2 : cX6_opens.data.toList.drop 48 = dktX6_opens_2 := dk_seg dksX6_opens_1 24 rfl rfl
theorem dX6_opens_0 : decode cX6_opens 0 = .ok (.aload_n 0, 1) := dk_42 (dk_at dksX6_opens_0 0 rfl rfl)
theorem dX6_opens_1 : decode cX6_opens 1 = .ok (.getfield 97, 3) := dk_180 0 97 (dk_at dksX6_opens_0 1 rfl rfl)
theorem dX6_opens_4 : decode cX6_opens 4 = .ok (.aload_n 0, 1) := dk_42 (dk_at dksX6_opens_0 4 rfl rfl)
theorem dX6_opens_5 : decode cX6_opens 5 = .ok (.getfield 266, 3) := dk_180 1 10 (dk_at dksX6_opens_0 5 rfl rfl)
theorem dX6_opens_8 : decode cX6_opens 8 = .ok (.iload_n 1, 1) := dk_27 (dk_at dksX6_opens_0 8 rfl rfl)
theorem dX6_opens_9 : decode cX6_opens 9 = .ok (.iastore, 1) := dk_79 (dk_at dksX6_opens_0 9 rfl rfl)
theorem dX6_opens_10 : decode cX6_opens 10 = .ok (.aload_n 0, 1) := dk_42 (dk_at dksX6_opens_0 10 rfl rfl)
theorem dX6_opens_11 : decode cX6_opens 11 = .ok (.getfield 100, 3) := dk_180 0 100 (dk_at dksX6_opens_0 11 rfl rfl)
theorem dX6_opens_14 : decode cX6_opens 14 = .ok (.aload_n 0, 1) := dk_42 (dk_at dksX6_opens_0 14 rfl rfl)
theorem dX6_opens_15 : decode cX6_opens 15 = .ok (.getfield 266, 3) := dk_180 1 10 (dk_at dksX6_opens_0 15 rfl rfl)
theorem dX6_opens_18 : decode cX6_opens 18 = .ok (.iload_n 2, 1) := dk_28 (dk_at dksX6_opens_0 18 rfl rfl)
theorem dX6_opens_19 : decode cX6_opens 19 = .ok (.iastore, 1) := dk_79 (dk_at dksX6_opens_0 19 rfl rfl)
theorem dX6_opens_20 : decode cX6_opens 20 = .ok (.aload_n 0, 1) := dk_42 (dk_at dksX6_opens_0 20 rfl rfl)
theorem dX6_opens_21 : decode cX6_opens 21 = .ok (.getfield 103, 3) := dk_180 0 103 (dk_at dksX6_opens_0 21 rfl rfl)
theorem dX6_opens_24 : decode cX6_opens 24 = .ok (.aload_n 0, 1) := dk_42 (dk_at dksX6_opens_1 0 rfl rfl)
theorem dX6_opens_25 : decode cX6_opens 25 = .ok (.getfield 266, 3) := dk_180 1 10 (dk_at dksX6_opens_1 1 rfl rfl)
theorem dX6_opens_28 : decode cX6_opens 28 = .ok (.iconst 0, 1) := dk_3 (dk_at dksX6_opens_1 4 rfl rfl)
theorem dX6_opens_29 : decode cX6_opens 29 = .ok (.iastore, 1) := dk_79 (dk_at dksX6_opens_1 5 rfl rfl)
theorem dX6_opens_30 : decode cX6_opens 30 = .ok (.aload_n 0, 1) := dk_42 (dk_at dksX6_opens_1 6 rfl rfl)
theorem dX6_opens_31 : decode cX6_opens 31 = .ok (.getfield 106, 3) := dk_180 0 106 (dk_at dksX6_opens_1 7 rfl rfl)
theorem dX6_opens_34 : decode cX6_opens 34 = .ok (.aload_n 0, 1) := dk_42 (dk_at dksX6_opens_1 10 rfl rfl)
theorem dX6_opens_35 : decode cX6_opens 35 = .ok (.getfield 266, 3) := dk_180 1 10 (dk_at dksX6_opens_1 11 rfl rfl)
theorem dX6_opens_38 : decode cX6_opens 38 = .ok (.iconst 0, 1) := dk_3 (dk_at dksX6_opens_1 14 rfl rfl)
theorem dX6_opens_39 : decode cX6_opens 39 = .ok (.iastore, 1) := dk_79 (dk_at dksX6_opens_1 15 rfl rfl)
theorem dX6_opens_40 : decode cX6_opens 40 = .ok (.aload_n 0, 1) := dk_42 (dk_at dksX6_opens_1 16 rfl rfl)
theorem dX6_opens_41 : decode cX6_opens 41 = .ok (.getfield 109, 3) := dk_180 0 109 (dk_at dksX6_opens_1 17 rfl rfl)
theorem dX6_opens_44 : decode cX6_opens 44 = .ok (.aload_n 0, 1) := dk_42 (dk_at dksX6_opens_1 20 rfl rfl)
theorem dX6_opens_45 : decode cX6_opens 45 = .ok (.getfield 266, 3) := dk_180 1 10 (dk_at dksX6_opens_1 21 rfl rfl)
theorem dX6_opens_48 : decode cX6_opens 48 = .ok (.iload_n 3, 1) := dk_29 (dk_at dksX6_opens_2 0 rfl rfl)
theorem dX6_opens_49 : decode cX6_opens 49 = .ok (.ifCond .eq 7, 3) := dk_153 0 7 (dk_at dksX6_opens_2 1 rfl rfl)
theorem dX6_opens_52 : decode cX6_opens 52 = .ok (.iconst 1, 1) := dk_4 (dk_at dksX6_opens_2 4 rfl rfl)
theorem dX6_opens_53 : decode cX6_opens 53 = .ok (.goto 4, 3) := dk_167 0 4 (dk_at dksX6_opens_2 5 rfl rfl)
theorem dX6_opens_56 : decode cX6_opens 56 = .ok (.iconst 0, 1) := dk_3 (dk_at dksX6_opens_2 8 rfl rfl)
theorem dX6_opens_57 : decode cX6_opens 57 = .ok (.iastore, 1) := dk_79 (dk_at dksX6_opens_2 9 rfl rfl)
theorem dX6_opens_58 : decode cX6_opens 58 = .ok (.aload_n 0, 1) := dk_42 (dk_at dksX6_opens_2 10 rfl rfl)
theorem dX6_opens_59 : decode cX6_opens 59 = .ok (.dup, 1) := dk_89 (dk_at dksX6_opens_2 11 rfl rfl)
theorem dX6_opens_60 : decode cX6_opens 60 = .ok (.getfield 266, 3) := dk_180 1 10 (dk_at dksX6_opens_2 12 rfl rfl)
theorem dX6_opens_63 : decode cX6_opens 63 = .ok (.iconst 1, 1) := dk_4 (dk_at dksX6_opens_2 15 rfl rfl)
theorem dX6_opens_64 : decode cX6_opens 64 = .ok (.iadd, 1) := dk_96 (dk_at dksX6_opens_2 16 rfl rfl)
theorem dX6_opens_65 : decode cX6_opens 65 = .ok (.putfield 266, 3) := dk_181 1 10 (dk_at dksX6_opens_2 17 rfl rfl)
theorem dX6_opens_68 : decode cX6_opens 68 = .ok (.return_, 1) := dk_177 (dk_at dksX6_opens_2 20 rfl rfl)
abbrev cX6_readsInside : ByteArray := prog_25_method_53_code
def yX6_readsInside : MethodName := ⟨RX6, "readsInside", "()Z"⟩
def dkwX6_readsInside_3 : List UInt8 := [16, 44, 182, 1, 33, 153, 0, 14, 42, 182, 1, 42, 153, 0, 7, 4, 167, 0, 4, 3, 172]
abbrev dktX6_readsInside_3 : List UInt8 := dkwX6_readsInside_3 ++ []
def dkwX6_readsInside_2 : List UInt8 := [182, 1, 45, 153, 0, 5, 4, 172, 42, 180, 0, 106, 42, 180, 1, 10, 4, 100, 46, 153, 0, 12, 42]
abbrev dktX6_readsInside_2 : List UInt8 := dkwX6_readsInside_2 ++ dktX6_readsInside_3
def dkwX6_readsInside_1 : List UInt8 := [182, 1, 45, 154, 0, 10, 42, 182, 1, 48, 153, 0, 7, 4, 167, 0, 4, 3, 172, 42, 16, 93]
abbrev dktX6_readsInside_1 : List UInt8 := dkwX6_readsInside_1 ++ dktX6_readsInside_2
def dkwX6_readsInside_0 : List UInt8 := [42, 3, 181, 1, 16, 42, 180, 0, 100, 42, 180, 1, 10, 4, 100, 46, 5, 160, 0, 25, 42, 16, 41]
abbrev dktX6_readsInside_0 : List UInt8 := dkwX6_readsInside_0 ++ dktX6_readsInside_1
theorem dksX6_readsInside_0 : cX6_readsInside.data.toList.drop 0 = dktX6_readsInside_0 := by decide +kernel
theorem dksX6_readsInside_1 : cX6_readsInside.data.toList.drop 23 = dktX6_readsInside_1 := dk_seg dksX6_readsInside_0 23 rfl rfl
theorem dksX6_readsInside_2 : cX6_readsInside.data.toList.drop 45 = dktX6_readsInside_2 := dk_seg dksX6_readsInside_1 22 rfl rfl
theorem dksX6_readsInside_3 : cX6_readsInside.data.toList.drop 68 = dktX6_readsInside_3 := dk_seg dksX6_readsInside_2 23 rfl rfl
theorem dX6_readsInside_0 : decode cX6_readsInside 0 = .ok (.aload_n 0, 1) := dk_42 (dk_at dksX6_readsInside_0 0 rfl rfl)
theorem dX6_readsInside_1 : decode cX6_readsInside 1 = .ok (.iconst 0, 1) := dk_3 (dk_at dksX6_readsInside_0 1 rfl rfl)
theorem dX6_readsInside_2 : decode cX6_readsInside 2 = .ok (.putfield 272, 3) := dk_181 1 16 (dk_at dksX6_readsInside_0 2 rfl rfl)
theorem dX6_readsInside_5 : decode cX6_readsInside 5 = .ok (.aload_n 0, 1) := dk_42 (dk_at dksX6_readsInside_0 5 rfl rfl)
theorem dX6_readsInside_6 : decode cX6_readsInside 6 = .ok (.getfield 100, 3) := dk_180 0 100 (dk_at dksX6_readsInside_0 6 rfl rfl)
theorem dX6_readsInside_9 : decode cX6_readsInside 9 = .ok (.aload_n 0, 1) := dk_42 (dk_at dksX6_readsInside_0 9 rfl rfl)
theorem dX6_readsInside_10 : decode cX6_readsInside 10 = .ok (.getfield 266, 3) := dk_180 1 10 (dk_at dksX6_readsInside_0 10 rfl rfl)
theorem dX6_readsInside_13 : decode cX6_readsInside 13 = .ok (.iconst 1, 1) := dk_4 (dk_at dksX6_readsInside_0 13 rfl rfl)
theorem dX6_readsInside_14 : decode cX6_readsInside 14 = .ok (.isub, 1) := dk_100 (dk_at dksX6_readsInside_0 14 rfl rfl)
theorem dX6_readsInside_15 : decode cX6_readsInside 15 = .ok (.iaload, 1) := dk_46 (dk_at dksX6_readsInside_0 15 rfl rfl)
theorem dX6_readsInside_16 : decode cX6_readsInside 16 = .ok (.iconst 2, 1) := dk_5 (dk_at dksX6_readsInside_0 16 rfl rfl)
theorem dX6_readsInside_17 : decode cX6_readsInside 17 = .ok (.if_icmp .ne 25, 3) := dk_160 0 25 (dk_at dksX6_readsInside_0 17 rfl rfl)
theorem dX6_readsInside_20 : decode cX6_readsInside 20 = .ok (.aload_n 0, 1) := dk_42 (dk_at dksX6_readsInside_0 20 rfl rfl)
theorem dX6_readsInside_21 : decode cX6_readsInside 21 = .ok (.bipush 41, 2) := dk_16 41 (dk_at dksX6_readsInside_0 21 rfl rfl)
theorem dX6_readsInside_23 : decode cX6_readsInside 23 = .ok (.invokevirtual 301, 3) := dk_182 1 45 (dk_at dksX6_readsInside_1 0 rfl rfl)
theorem dX6_readsInside_26 : decode cX6_readsInside 26 = .ok (.ifCond .ne 10, 3) := dk_154 0 10 (dk_at dksX6_readsInside_1 3 rfl rfl)
theorem dX6_readsInside_29 : decode cX6_readsInside 29 = .ok (.aload_n 0, 1) := dk_42 (dk_at dksX6_readsInside_1 6 rfl rfl)
theorem dX6_readsInside_30 : decode cX6_readsInside 30 = .ok (.invokevirtual 304, 3) := dk_182 1 48 (dk_at dksX6_readsInside_1 7 rfl rfl)
theorem dX6_readsInside_33 : decode cX6_readsInside 33 = .ok (.ifCond .eq 7, 3) := dk_153 0 7 (dk_at dksX6_readsInside_1 10 rfl rfl)
theorem dX6_readsInside_36 : decode cX6_readsInside 36 = .ok (.iconst 1, 1) := dk_4 (dk_at dksX6_readsInside_1 13 rfl rfl)
theorem dX6_readsInside_37 : decode cX6_readsInside 37 = .ok (.goto 4, 3) := dk_167 0 4 (dk_at dksX6_readsInside_1 14 rfl rfl)
theorem dX6_readsInside_40 : decode cX6_readsInside 40 = .ok (.iconst 0, 1) := dk_3 (dk_at dksX6_readsInside_1 17 rfl rfl)
theorem dX6_readsInside_41 : decode cX6_readsInside 41 = .ok (.ireturn, 1) := dk_172 (dk_at dksX6_readsInside_1 18 rfl rfl)
theorem dX6_readsInside_42 : decode cX6_readsInside 42 = .ok (.aload_n 0, 1) := dk_42 (dk_at dksX6_readsInside_1 19 rfl rfl)
theorem dX6_readsInside_43 : decode cX6_readsInside 43 = .ok (.bipush 93, 2) := dk_16 93 (dk_at dksX6_readsInside_1 20 rfl rfl)
theorem dX6_readsInside_45 : decode cX6_readsInside 45 = .ok (.invokevirtual 301, 3) := dk_182 1 45 (dk_at dksX6_readsInside_2 0 rfl rfl)
theorem dX6_readsInside_48 : decode cX6_readsInside 48 = .ok (.ifCond .eq 5, 3) := dk_153 0 5 (dk_at dksX6_readsInside_2 3 rfl rfl)
theorem dX6_readsInside_51 : decode cX6_readsInside 51 = .ok (.iconst 1, 1) := dk_4 (dk_at dksX6_readsInside_2 6 rfl rfl)
theorem dX6_readsInside_52 : decode cX6_readsInside 52 = .ok (.ireturn, 1) := dk_172 (dk_at dksX6_readsInside_2 7 rfl rfl)
theorem dX6_readsInside_53 : decode cX6_readsInside 53 = .ok (.aload_n 0, 1) := dk_42 (dk_at dksX6_readsInside_2 8 rfl rfl)
theorem dX6_readsInside_54 : decode cX6_readsInside 54 = .ok (.getfield 106, 3) := dk_180 0 106 (dk_at dksX6_readsInside_2 9 rfl rfl)
theorem dX6_readsInside_57 : decode cX6_readsInside 57 = .ok (.aload_n 0, 1) := dk_42 (dk_at dksX6_readsInside_2 12 rfl rfl)
theorem dX6_readsInside_58 : decode cX6_readsInside 58 = .ok (.getfield 266, 3) := dk_180 1 10 (dk_at dksX6_readsInside_2 13 rfl rfl)
theorem dX6_readsInside_61 : decode cX6_readsInside 61 = .ok (.iconst 1, 1) := dk_4 (dk_at dksX6_readsInside_2 16 rfl rfl)
theorem dX6_readsInside_62 : decode cX6_readsInside 62 = .ok (.isub, 1) := dk_100 (dk_at dksX6_readsInside_2 17 rfl rfl)
theorem dX6_readsInside_63 : decode cX6_readsInside 63 = .ok (.iaload, 1) := dk_46 (dk_at dksX6_readsInside_2 18 rfl rfl)
theorem dX6_readsInside_64 : decode cX6_readsInside 64 = .ok (.ifCond .eq 12, 3) := dk_153 0 12 (dk_at dksX6_readsInside_2 19 rfl rfl)
theorem dX6_readsInside_67 : decode cX6_readsInside 67 = .ok (.aload_n 0, 1) := dk_42 (dk_at dksX6_readsInside_2 22 rfl rfl)
theorem dX6_readsInside_68 : decode cX6_readsInside 68 = .ok (.bipush 44, 2) := dk_16 44 (dk_at dksX6_readsInside_3 0 rfl rfl)
theorem dX6_readsInside_70 : decode cX6_readsInside 70 = .ok (.invokevirtual 289, 3) := dk_182 1 33 (dk_at dksX6_readsInside_3 2 rfl rfl)
theorem dX6_readsInside_73 : decode cX6_readsInside 73 = .ok (.ifCond .eq 14, 3) := dk_153 0 14 (dk_at dksX6_readsInside_3 5 rfl rfl)
theorem dX6_readsInside_76 : decode cX6_readsInside 76 = .ok (.aload_n 0, 1) := dk_42 (dk_at dksX6_readsInside_3 8 rfl rfl)
theorem dX6_readsInside_77 : decode cX6_readsInside 77 = .ok (.invokevirtual 298, 3) := dk_182 1 42 (dk_at dksX6_readsInside_3 9 rfl rfl)
theorem dX6_readsInside_80 : decode cX6_readsInside 80 = .ok (.ifCond .eq 7, 3) := dk_153 0 7 (dk_at dksX6_readsInside_3 12 rfl rfl)
theorem dX6_readsInside_83 : decode cX6_readsInside 83 = .ok (.iconst 1, 1) := dk_4 (dk_at dksX6_readsInside_3 15 rfl rfl)
theorem dX6_readsInside_84 : decode cX6_readsInside 84 = .ok (.goto 4, 3) := dk_167 0 4 (dk_at dksX6_readsInside_3 16 rfl rfl)
theorem dX6_readsInside_87 : decode cX6_readsInside 87 = .ok (.iconst 0, 1) := dk_3 (dk_at dksX6_readsInside_3 19 rfl rfl)
theorem dX6_readsInside_88 : decode cX6_readsInside 88 = .ok (.ireturn, 1) := dk_172 (dk_at dksX6_readsInside_3 20 rfl rfl)
abbrev cX6_closes : ByteArray := prog_25_method_51_code
def yX6_closes : MethodName := ⟨RX6, "closes", "(I)Z"⟩
def dkwX6_closes_1 : List UInt8 := [42, 180, 0, 97, 42, 180, 1, 10, 46, 42, 180, 0, 106, 42, 180, 1, 10, 46, 79, 4, 172]
abbrev dktX6_closes_1 : List UInt8 := dkwX6_closes_1 ++ []
def dkwX6_closes_0 : List UInt8 := [42, 27, 182, 1, 33, 154, 0, 5, 3, 172, 42, 89, 180, 1, 10, 4, 100, 181, 1, 10, 42, 180, 0, 16]
abbrev dktX6_closes_0 : List UInt8 := dkwX6_closes_0 ++ dktX6_closes_1
theorem dksX6_closes_0 : cX6_closes.data.toList.drop 0 = dktX6_closes_0 := by decide +kernel
theorem dksX6_closes_1 : cX6_closes.data.toList.drop 24 = dktX6_closes_1 := dk_seg dksX6_closes_0 24 rfl rfl
theorem dX6_closes_0 : decode cX6_closes 0 = .ok (.aload_n 0, 1) := dk_42 (dk_at dksX6_closes_0 0 rfl rfl)
theorem dX6_closes_1 : decode cX6_closes 1 = .ok (.iload_n 1, 1) := dk_27 (dk_at dksX6_closes_0 1 rfl rfl)
theorem dX6_closes_2 : decode cX6_closes 2 = .ok (.invokevirtual 289, 3) := dk_182 1 33 (dk_at dksX6_closes_0 2 rfl rfl)
theorem dX6_closes_5 : decode cX6_closes 5 = .ok (.ifCond .ne 5, 3) := dk_154 0 5 (dk_at dksX6_closes_0 5 rfl rfl)
theorem dX6_closes_8 : decode cX6_closes 8 = .ok (.iconst 0, 1) := dk_3 (dk_at dksX6_closes_0 8 rfl rfl)
theorem dX6_closes_9 : decode cX6_closes 9 = .ok (.ireturn, 1) := dk_172 (dk_at dksX6_closes_0 9 rfl rfl)
theorem dX6_closes_10 : decode cX6_closes 10 = .ok (.aload_n 0, 1) := dk_42 (dk_at dksX6_closes_0 10 rfl rfl)
theorem dX6_closes_11 : decode cX6_closes 11 = .ok (.dup, 1) := dk_89 (dk_at dksX6_closes_0 11 rfl rfl)
theorem dX6_closes_12 : decode cX6_closes 12 = .ok (.getfield 266, 3) := dk_180 1 10 (dk_at dksX6_closes_0 12 rfl rfl)
theorem dX6_closes_15 : decode cX6_closes 15 = .ok (.iconst 1, 1) := dk_4 (dk_at dksX6_closes_0 15 rfl rfl)
theorem dX6_closes_16 : decode cX6_closes 16 = .ok (.isub, 1) := dk_100 (dk_at dksX6_closes_0 16 rfl rfl)
theorem dX6_closes_17 : decode cX6_closes 17 = .ok (.putfield 266, 3) := dk_181 1 10 (dk_at dksX6_closes_0 17 rfl rfl)
theorem dX6_closes_20 : decode cX6_closes 20 = .ok (.aload_n 0, 1) := dk_42 (dk_at dksX6_closes_0 20 rfl rfl)
theorem dX6_closes_21 : decode cX6_closes 21 = .ok (.getfield 16, 3) := dk_180 0 16 (dk_at dksX6_closes_0 21 rfl rfl)
theorem dX6_closes_24 : decode cX6_closes 24 = .ok (.aload_n 0, 1) := dk_42 (dk_at dksX6_closes_1 0 rfl rfl)
theorem dX6_closes_25 : decode cX6_closes 25 = .ok (.getfield 97, 3) := dk_180 0 97 (dk_at dksX6_closes_1 1 rfl rfl)
theorem dX6_closes_28 : decode cX6_closes 28 = .ok (.aload_n 0, 1) := dk_42 (dk_at dksX6_closes_1 4 rfl rfl)
theorem dX6_closes_29 : decode cX6_closes 29 = .ok (.getfield 266, 3) := dk_180 1 10 (dk_at dksX6_closes_1 5 rfl rfl)
theorem dX6_closes_32 : decode cX6_closes 32 = .ok (.iaload, 1) := dk_46 (dk_at dksX6_closes_1 8 rfl rfl)
theorem dX6_closes_33 : decode cX6_closes 33 = .ok (.aload_n 0, 1) := dk_42 (dk_at dksX6_closes_1 9 rfl rfl)
theorem dX6_closes_34 : decode cX6_closes 34 = .ok (.getfield 106, 3) := dk_180 0 106 (dk_at dksX6_closes_1 10 rfl rfl)
theorem dX6_closes_37 : decode cX6_closes 37 = .ok (.aload_n 0, 1) := dk_42 (dk_at dksX6_closes_1 13 rfl rfl)
theorem dX6_closes_38 : decode cX6_closes 38 = .ok (.getfield 266, 3) := dk_180 1 10 (dk_at dksX6_closes_1 14 rfl rfl)
theorem dX6_closes_41 : decode cX6_closes 41 = .ok (.iaload, 1) := dk_46 (dk_at dksX6_closes_1 17 rfl rfl)
theorem dX6_closes_42 : decode cX6_closes 42 = .ok (.iastore, 1) := dk_79 (dk_at dksX6_closes_1 18 rfl rfl)
theorem dX6_closes_43 : decode cX6_closes 43 = .ok (.iconst 1, 1) := dk_4 (dk_at dksX6_closes_1 19 rfl rfl)
theorem dX6_closes_44 : decode cX6_closes 44 = .ok (.ireturn, 1) := dk_172 (dk_at dksX6_closes_1 20 rfl rfl)
abbrev cX6_reads : ByteArray := prog_25_method_43_code
def yX6_reads : MethodName := ⟨RX6, "reads", "(I)Z"⟩
def dkwX6_reads_0 : List UInt8 := [42, 182, 1, 3, 27, 159, 0, 5, 3, 172, 42, 89, 180, 1, 0, 4, 96, 181, 1, 0, 4, 172]
abbrev dktX6_reads_0 : List UInt8 := dkwX6_reads_0 ++ []
theorem dksX6_reads_0 : cX6_reads.data.toList.drop 0 = dktX6_reads_0 := by decide +kernel
theorem dX6_reads_0 : decode cX6_reads 0 = .ok (.aload_n 0, 1) := dk_42 (dk_at dksX6_reads_0 0 rfl rfl)
theorem dX6_reads_1 : decode cX6_reads 1 = .ok (.invokevirtual 259, 3) := dk_182 1 3 (dk_at dksX6_reads_0 1 rfl rfl)
theorem dX6_reads_4 : decode cX6_reads 4 = .ok (.iload_n 1, 1) := dk_27 (dk_at dksX6_reads_0 4 rfl rfl)
theorem dX6_reads_5 : decode cX6_reads 5 = .ok (.if_icmp .eq 5, 3) := dk_159 0 5 (dk_at dksX6_reads_0 5 rfl rfl)
theorem dX6_reads_8 : decode cX6_reads 8 = .ok (.iconst 0, 1) := dk_3 (dk_at dksX6_reads_0 8 rfl rfl)
theorem dX6_reads_9 : decode cX6_reads 9 = .ok (.ireturn, 1) := dk_172 (dk_at dksX6_reads_0 9 rfl rfl)
theorem dX6_reads_10 : decode cX6_reads 10 = .ok (.aload_n 0, 1) := dk_42 (dk_at dksX6_reads_0 10 rfl rfl)
theorem dX6_reads_11 : decode cX6_reads 11 = .ok (.dup, 1) := dk_89 (dk_at dksX6_reads_0 11 rfl rfl)
theorem dX6_reads_12 : decode cX6_reads 12 = .ok (.getfield 256, 3) := dk_180 1 0 (dk_at dksX6_reads_0 12 rfl rfl)
theorem dX6_reads_15 : decode cX6_reads 15 = .ok (.iconst 1, 1) := dk_4 (dk_at dksX6_reads_0 15 rfl rfl)
theorem dX6_reads_16 : decode cX6_reads 16 = .ok (.iadd, 1) := dk_96 (dk_at dksX6_reads_0 16 rfl rfl)
theorem dX6_reads_17 : decode cX6_reads 17 = .ok (.putfield 256, 3) := dk_181 1 0 (dk_at dksX6_reads_0 17 rfl rfl)
theorem dX6_reads_20 : decode cX6_reads 20 = .ok (.iconst 1, 1) := dk_4 (dk_at dksX6_reads_0 20 rfl rfl)
theorem dX6_reads_21 : decode cX6_reads 21 = .ok (.ireturn, 1) := dk_172 (dk_at dksX6_reads_0 21 rfl rfl)
abbrev cX6_readsField : ByteArray := prog_25_method_52_code
def yX6_readsField : MethodName := ⟨RX6, "readsField", "()Z"⟩
def dkwX6_readsField_3 : List UInt8 := [182, 1, 42, 172]
abbrev dktX6_readsField_3 : List UInt8 := dkwX6_readsField_3 ++ []
def dkwX6_readsField_2 : List UInt8 := [182, 1, 13, 42, 180, 0, 103, 42, 180, 1, 10, 4, 100, 92, 46, 4, 42, 180, 1, 16, 120, 128, 79, 42]
abbrev dktX6_readsField_2 : List UInt8 := dkwX6_readsField_2 ++ dktX6_readsField_3
def dkwX6_readsField_1 : List UInt8 := [180, 0, 103, 42, 180, 1, 10, 4, 100, 46, 42, 180, 1, 16, 184, 1, 39, 153, 0, 8, 42, 27]
abbrev dktX6_readsField_1 : List UInt8 := dkwX6_readsField_1 ++ dktX6_readsField_2
def dkwX6_readsField_0 : List UInt8 := [42, 180, 1, 0, 60, 42, 42, 182, 1, 36, 181, 1, 16, 42, 180, 1, 16, 156, 0, 5, 3, 172, 42]
abbrev dktX6_readsField_0 : List UInt8 := dkwX6_readsField_0 ++ dktX6_readsField_1
theorem dksX6_readsField_0 : cX6_readsField.data.toList.drop 0 = dktX6_readsField_0 := by decide +kernel
theorem dksX6_readsField_1 : cX6_readsField.data.toList.drop 23 = dktX6_readsField_1 := dk_seg dksX6_readsField_0 23 rfl rfl
theorem dksX6_readsField_2 : cX6_readsField.data.toList.drop 45 = dktX6_readsField_2 := dk_seg dksX6_readsField_1 22 rfl rfl
theorem dksX6_readsField_3 : cX6_readsField.data.toList.drop 69 = dktX6_readsField_3 := dk_seg dksX6_readsField_2 24 rfl rfl
theorem dX6_readsField_0 : decode cX6_readsField 0 = .ok (.aload_n 0, 1) := dk_42 (dk_at dksX6_readsField_0 0 rfl rfl)
theorem dX6_readsField_1 : decode cX6_readsField 1 = .ok (.getfield 256, 3) := dk_180 1 0 (dk_at dksX6_readsField_0 1 rfl rfl)
theorem dX6_readsField_4 : decode cX6_readsField 4 = .ok (.istore_n 1, 1) := dk_60 (dk_at dksX6_readsField_0 4 rfl rfl)
theorem dX6_readsField_5 : decode cX6_readsField 5 = .ok (.aload_n 0, 1) := dk_42 (dk_at dksX6_readsField_0 5 rfl rfl)
theorem dX6_readsField_6 : decode cX6_readsField 6 = .ok (.aload_n 0, 1) := dk_42 (dk_at dksX6_readsField_0 6 rfl rfl)
theorem dX6_readsField_7 : decode cX6_readsField 7 = .ok (.invokevirtual 292, 3) := dk_182 1 36 (dk_at dksX6_readsField_0 7 rfl rfl)
theorem dX6_readsField_10 : decode cX6_readsField 10 = .ok (.putfield 272, 3) := dk_181 1 16 (dk_at dksX6_readsField_0 10 rfl rfl)
theorem dX6_readsField_13 : decode cX6_readsField 13 = .ok (.aload_n 0, 1) := dk_42 (dk_at dksX6_readsField_0 13 rfl rfl)
theorem dX6_readsField_14 : decode cX6_readsField 14 = .ok (.getfield 272, 3) := dk_180 1 16 (dk_at dksX6_readsField_0 14 rfl rfl)
theorem dX6_readsField_17 : decode cX6_readsField 17 = .ok (.ifCond .ge 5, 3) := dk_156 0 5 (dk_at dksX6_readsField_0 17 rfl rfl)
theorem dX6_readsField_20 : decode cX6_readsField 20 = .ok (.iconst 0, 1) := dk_3 (dk_at dksX6_readsField_0 20 rfl rfl)
theorem dX6_readsField_21 : decode cX6_readsField 21 = .ok (.ireturn, 1) := dk_172 (dk_at dksX6_readsField_0 21 rfl rfl)
theorem dX6_readsField_22 : decode cX6_readsField 22 = .ok (.aload_n 0, 1) := dk_42 (dk_at dksX6_readsField_0 22 rfl rfl)
theorem dX6_readsField_23 : decode cX6_readsField 23 = .ok (.getfield 103, 3) := dk_180 0 103 (dk_at dksX6_readsField_1 0 rfl rfl)
theorem dX6_readsField_26 : decode cX6_readsField 26 = .ok (.aload_n 0, 1) := dk_42 (dk_at dksX6_readsField_1 3 rfl rfl)
theorem dX6_readsField_27 : decode cX6_readsField 27 = .ok (.getfield 266, 3) := dk_180 1 10 (dk_at dksX6_readsField_1 4 rfl rfl)
theorem dX6_readsField_30 : decode cX6_readsField 30 = .ok (.iconst 1, 1) := dk_4 (dk_at dksX6_readsField_1 7 rfl rfl)
theorem dX6_readsField_31 : decode cX6_readsField 31 = .ok (.isub, 1) := dk_100 (dk_at dksX6_readsField_1 8 rfl rfl)
theorem dX6_readsField_32 : decode cX6_readsField 32 = .ok (.iaload, 1) := dk_46 (dk_at dksX6_readsField_1 9 rfl rfl)
theorem dX6_readsField_33 : decode cX6_readsField 33 = .ok (.aload_n 0, 1) := dk_42 (dk_at dksX6_readsField_1 10 rfl rfl)
theorem dX6_readsField_34 : decode cX6_readsField 34 = .ok (.getfield 272, 3) := dk_180 1 16 (dk_at dksX6_readsField_1 11 rfl rfl)
theorem dX6_readsField_37 : decode cX6_readsField 37 = .ok (.invokestatic 295, 3) := dk_184 1 39 (dk_at dksX6_readsField_1 14 rfl rfl)
theorem dX6_readsField_40 : decode cX6_readsField 40 = .ok (.ifCond .eq 8, 3) := dk_153 0 8 (dk_at dksX6_readsField_1 17 rfl rfl)
theorem dX6_readsField_43 : decode cX6_readsField 43 = .ok (.aload_n 0, 1) := dk_42 (dk_at dksX6_readsField_1 20 rfl rfl)
theorem dX6_readsField_44 : decode cX6_readsField 44 = .ok (.iload_n 1, 1) := dk_27 (dk_at dksX6_readsField_1 21 rfl rfl)
theorem dX6_readsField_45 : decode cX6_readsField 45 = .ok (.invokevirtual 269, 3) := dk_182 1 13 (dk_at dksX6_readsField_2 0 rfl rfl)
theorem dX6_readsField_48 : decode cX6_readsField 48 = .ok (.aload_n 0, 1) := dk_42 (dk_at dksX6_readsField_2 3 rfl rfl)
theorem dX6_readsField_49 : decode cX6_readsField 49 = .ok (.getfield 103, 3) := dk_180 0 103 (dk_at dksX6_readsField_2 4 rfl rfl)
theorem dX6_readsField_52 : decode cX6_readsField 52 = .ok (.aload_n 0, 1) := dk_42 (dk_at dksX6_readsField_2 7 rfl rfl)
theorem dX6_readsField_53 : decode cX6_readsField 53 = .ok (.getfield 266, 3) := dk_180 1 10 (dk_at dksX6_readsField_2 8 rfl rfl)
theorem dX6_readsField_56 : decode cX6_readsField 56 = .ok (.iconst 1, 1) := dk_4 (dk_at dksX6_readsField_2 11 rfl rfl)
theorem dX6_readsField_57 : decode cX6_readsField 57 = .ok (.isub, 1) := dk_100 (dk_at dksX6_readsField_2 12 rfl rfl)
theorem dX6_readsField_58 : decode cX6_readsField 58 = .ok (.dup2, 1) := dk_92 (dk_at dksX6_readsField_2 13 rfl rfl)
theorem dX6_readsField_59 : decode cX6_readsField 59 = .ok (.iaload, 1) := dk_46 (dk_at dksX6_readsField_2 14 rfl rfl)
theorem dX6_readsField_60 : decode cX6_readsField 60 = .ok (.iconst 1, 1) := dk_4 (dk_at dksX6_readsField_2 15 rfl rfl)
theorem dX6_readsField_61 : decode cX6_readsField 61 = .ok (.aload_n 0, 1) := dk_42 (dk_at dksX6_readsField_2 16 rfl rfl)
theorem dX6_readsField_62 : decode cX6_readsField 62 = .ok (.getfield 272, 3) := dk_180 1 16 (dk_at dksX6_readsField_2 17 rfl rfl)
theorem dX6_readsField_65 : decode cX6_readsField 65 = .ok (.ishl, 1) := dk_120 (dk_at dksX6_readsField_2 20 rfl rfl)
theorem dX6_readsField_66 : decode cX6_readsField 66 = .ok (.ior, 1) := dk_128 (dk_at dksX6_readsField_2 21 rfl rfl)
theorem dX6_readsField_67 : decode cX6_readsField 67 = .ok (.iastore, 1) := dk_79 (dk_at dksX6_readsField_2 22 rfl rfl)
theorem dX6_readsField_68 : decode cX6_readsField 68 = .ok (.aload_n 0, 1) := dk_42 (dk_at dksX6_readsField_2 23 rfl rfl)
theorem dX6_readsField_69 : decode cX6_readsField 69 = .ok (.invokevirtual 298, 3) := dk_182 1 42 (dk_at dksX6_readsField_3 0 rfl rfl)
theorem dX6_readsField_72 : decode cX6_readsField 72 = .ok (.ireturn, 1) := dk_172 (dk_at dksX6_readsField_3 3 rfl rfl)
abbrev cX6_nameNow : ByteArray := prog_25_method_46_code
def yX6_nameNow : MethodName := ⟨RX6, "nameNow", "()I"⟩
def dkwX6_nameNow_1 : List UInt8 := [181, 1, 0, 42, 180, 0, 94, 42, 180, 1, 0, 4, 100, 46, 16, 97, 100, 4, 96, 172]
abbrev dktX6_nameNow_1 : List UInt8 := dkwX6_nameNow_1 ++ []
def dkwX6_nameNow_0 : List UInt8 := [42, 182, 1, 3, 16, 97, 16, 101, 184, 0, 213, 154, 0, 6, 16, 247, 172, 42, 89, 180, 1, 0, 4, 96]
abbrev dktX6_nameNow_0 : List UInt8 := dkwX6_nameNow_0 ++ dktX6_nameNow_1
theorem dksX6_nameNow_0 : cX6_nameNow.data.toList.drop 0 = dktX6_nameNow_0 := by decide +kernel
theorem dksX6_nameNow_1 : cX6_nameNow.data.toList.drop 24 = dktX6_nameNow_1 := dk_seg dksX6_nameNow_0 24 rfl rfl
theorem dX6_nameNow_0 : decode cX6_nameNow 0 = .ok (.aload_n 0, 1) := dk_42 (dk_at dksX6_nameNow_0 0 rfl rfl)
theorem dX6_nameNow_1 : decode cX6_nameNow 1 = .ok (.invokevirtual 259, 3) := dk_182 1 3 (dk_at dksX6_nameNow_0 1 rfl rfl)
theorem dX6_nameNow_4 : decode cX6_nameNow 4 = .ok (.bipush 97, 2) := dk_16 97 (dk_at dksX6_nameNow_0 4 rfl rfl)
theorem dX6_nameNow_6 : decode cX6_nameNow 6 = .ok (.bipush 101, 2) := dk_16 101 (dk_at dksX6_nameNow_0 6 rfl rfl)
theorem dX6_nameNow_8 : decode cX6_nameNow 8 = .ok (.invokestatic 213, 3) := dk_184 0 213 (dk_at dksX6_nameNow_0 8 rfl rfl)
theorem dX6_nameNow_11 : decode cX6_nameNow 11 = .ok (.ifCond .ne 6, 3) := dk_154 0 6 (dk_at dksX6_nameNow_0 11 rfl rfl)
theorem dX6_nameNow_14 : decode cX6_nameNow 14 = .ok (.bipush (-9), 2) := dk_16 247 (dk_at dksX6_nameNow_0 14 rfl rfl)
theorem dX6_nameNow_16 : decode cX6_nameNow 16 = .ok (.ireturn, 1) := dk_172 (dk_at dksX6_nameNow_0 16 rfl rfl)
theorem dX6_nameNow_17 : decode cX6_nameNow 17 = .ok (.aload_n 0, 1) := dk_42 (dk_at dksX6_nameNow_0 17 rfl rfl)
theorem dX6_nameNow_18 : decode cX6_nameNow 18 = .ok (.dup, 1) := dk_89 (dk_at dksX6_nameNow_0 18 rfl rfl)
theorem dX6_nameNow_19 : decode cX6_nameNow 19 = .ok (.getfield 256, 3) := dk_180 1 0 (dk_at dksX6_nameNow_0 19 rfl rfl)
theorem dX6_nameNow_22 : decode cX6_nameNow 22 = .ok (.iconst 1, 1) := dk_4 (dk_at dksX6_nameNow_0 22 rfl rfl)
theorem dX6_nameNow_23 : decode cX6_nameNow 23 = .ok (.iadd, 1) := dk_96 (dk_at dksX6_nameNow_0 23 rfl rfl)
theorem dX6_nameNow_24 : decode cX6_nameNow 24 = .ok (.putfield 256, 3) := dk_181 1 0 (dk_at dksX6_nameNow_1 0 rfl rfl)
theorem dX6_nameNow_27 : decode cX6_nameNow 27 = .ok (.aload_n 0, 1) := dk_42 (dk_at dksX6_nameNow_1 3 rfl rfl)
theorem dX6_nameNow_28 : decode cX6_nameNow 28 = .ok (.getfield 94, 3) := dk_180 0 94 (dk_at dksX6_nameNow_1 4 rfl rfl)
theorem dX6_nameNow_31 : decode cX6_nameNow 31 = .ok (.aload_n 0, 1) := dk_42 (dk_at dksX6_nameNow_1 7 rfl rfl)
theorem dX6_nameNow_32 : decode cX6_nameNow 32 = .ok (.getfield 256, 3) := dk_180 1 0 (dk_at dksX6_nameNow_1 8 rfl rfl)
theorem dX6_nameNow_35 : decode cX6_nameNow 35 = .ok (.iconst 1, 1) := dk_4 (dk_at dksX6_nameNow_1 11 rfl rfl)
theorem dX6_nameNow_36 : decode cX6_nameNow 36 = .ok (.isub, 1) := dk_100 (dk_at dksX6_nameNow_1 12 rfl rfl)
theorem dX6_nameNow_37 : decode cX6_nameNow 37 = .ok (.iaload, 1) := dk_46 (dk_at dksX6_nameNow_1 13 rfl rfl)
theorem dX6_nameNow_38 : decode cX6_nameNow 38 = .ok (.bipush 97, 2) := dk_16 97 (dk_at dksX6_nameNow_1 14 rfl rfl)
theorem dX6_nameNow_40 : decode cX6_nameNow 40 = .ok (.isub, 1) := dk_100 (dk_at dksX6_nameNow_1 16 rfl rfl)
theorem dX6_nameNow_41 : decode cX6_nameNow 41 = .ok (.iconst 1, 1) := dk_4 (dk_at dksX6_nameNow_1 17 rfl rfl)
theorem dX6_nameNow_42 : decode cX6_nameNow 42 = .ok (.iadd, 1) := dk_96 (dk_at dksX6_nameNow_1 18 rfl rfl)
theorem dX6_nameNow_43 : decode cX6_nameNow 43 = .ok (.ireturn, 1) := dk_172 (dk_at dksX6_nameNow_1 19 rfl rfl)
abbrev cX6_has : ByteArray := prog_25_method_6_code
def yX6_has : MethodName := ⟨RX6, "has", "(II)Z"⟩
def dkwX6_has_0 : List UInt8 := [26, 27, 122, 4, 126, 4, 160, 0, 7, 4, 167, 0, 4, 3, 172]
abbrev dktX6_has_0 : List UInt8 := dkwX6_has_0 ++ []
theorem dksX6_has_0 : cX6_has.data.toList.drop 0 = dktX6_has_0 := by decide +kernel
theorem dX6_has_0 : decode cX6_has 0 = .ok (.iload_n 0, 1) := dk_26 (dk_at dksX6_has_0 0 rfl rfl)
theorem dX6_has_1 : decode cX6_has 1 = .ok (.iload_n 1, 1) := dk_27 (dk_at dksX6_has_0 1 rfl rfl)
theorem dX6_has_2 : decode cX6_has 2 = .ok (.ishr, 1) := dk_122 (dk_at dksX6_has_0 2 rfl rfl)
theorem dX6_has_3 : decode cX6_has 3 = .ok (.iconst 1, 1) := dk_4 (dk_at dksX6_has_0 3 rfl rfl)
theorem dX6_has_4 : decode cX6_has 4 = .ok (.iand, 1) := dk_126 (dk_at dksX6_has_0 4 rfl rfl)
theorem dX6_has_5 : decode cX6_has 5 = .ok (.iconst 1, 1) := dk_4 (dk_at dksX6_has_0 5 rfl rfl)
theorem dX6_has_6 : decode cX6_has 6 = .ok (.if_icmp .ne 7, 3) := dk_160 0 7 (dk_at dksX6_has_0 6 rfl rfl)
theorem dX6_has_9 : decode cX6_has 9 = .ok (.iconst 1, 1) := dk_4 (dk_at dksX6_has_0 9 rfl rfl)
theorem dX6_has_10 : decode cX6_has 10 = .ok (.goto 4, 3) := dk_167 0 4 (dk_at dksX6_has_0 10 rfl rfl)
theorem dX6_has_13 : decode cX6_has 13 = .ok (.iconst 0, 1) := dk_3 (dk_at dksX6_has_0 13 rfl rfl)
theorem dX6_has_14 : decode cX6_has 14 = .ok (.ireturn, 1) := dk_172 (dk_at dksX6_has_0 14 rfl rfl)
abbrev cX6_check : ByteArray := prog_25_method_66_code
def yX6_check : MethodName := ⟨RX6, "check", "()I"⟩
def dkwX6_check_2 : List UInt8 := [180, 1, 7, 100, 167, 0, 11, 17, 252, 24, 42, 180, 1, 0, 100, 172]
abbrev dktX6_check_2 : List UInt8 := dkwX6_check_2 ++ []
def dkwX6_check_1 : List UInt8 := [156, 0, 8, 42, 180, 0, 122, 172, 42, 4, 3, 182, 1, 91, 27, 153, 0, 14, 17, 248, 48, 42]
abbrev dktX6_check_1 : List UInt8 := dkwX6_check_1 ++ dktX6_check_2
def dkwX6_check_0 : List UInt8 := [42, 4, 4, 182, 1, 91, 42, 182, 1, 94, 60, 42, 3, 181, 0, 250, 27, 153, 0, 15, 42, 180, 1, 7]
abbrev dktX6_check_0 : List UInt8 := dkwX6_check_0 ++ dktX6_check_1
theorem dksX6_check_0 : cX6_check.data.toList.drop 0 = dktX6_check_0 := by decide +kernel
theorem dksX6_check_1 : cX6_check.data.toList.drop 24 = dktX6_check_1 := dk_seg dksX6_check_0 24 rfl rfl
theorem dksX6_check_2 : cX6_check.data.toList.drop 46 = dktX6_check_2 := dk_seg dksX6_check_1 22 rfl rfl
theorem dX6_check_0 : decode cX6_check 0 = .ok (.aload_n 0, 1) := dk_42 (dk_at dksX6_check_0 0 rfl rfl)
theorem dX6_check_1 : decode cX6_check 1 = .ok (.iconst 1, 1) := dk_4 (dk_at dksX6_check_0 1 rfl rfl)
theorem dX6_check_2 : decode cX6_check 2 = .ok (.iconst 1, 1) := dk_4 (dk_at dksX6_check_0 2 rfl rfl)
theorem dX6_check_3 : decode cX6_check 3 = .ok (.invokevirtual 347, 3) := dk_182 1 91 (dk_at dksX6_check_0 3 rfl rfl)
theorem dX6_check_6 : decode cX6_check 6 = .ok (.aload_n 0, 1) := dk_42 (dk_at dksX6_check_0 6 rfl rfl)
theorem dX6_check_7 : decode cX6_check 7 = .ok (.invokevirtual 350, 3) := dk_182 1 94 (dk_at dksX6_check_0 7 rfl rfl)
theorem dX6_check_10 : decode cX6_check 10 = .ok (.istore_n 1, 1) := dk_60 (dk_at dksX6_check_0 10 rfl rfl)
theorem dX6_check_11 : decode cX6_check 11 = .ok (.aload_n 0, 1) := dk_42 (dk_at dksX6_check_0 11 rfl rfl)
theorem dX6_check_12 : decode cX6_check 12 = .ok (.iconst 0, 1) := dk_3 (dk_at dksX6_check_0 12 rfl rfl)
theorem dX6_check_13 : decode cX6_check 13 = .ok (.putfield 250, 3) := dk_181 0 250 (dk_at dksX6_check_0 13 rfl rfl)
theorem dX6_check_16 : decode cX6_check 16 = .ok (.iload_n 1, 1) := dk_27 (dk_at dksX6_check_0 16 rfl rfl)
theorem dX6_check_17 : decode cX6_check 17 = .ok (.ifCond .eq 15, 3) := dk_153 0 15 (dk_at dksX6_check_0 17 rfl rfl)
theorem dX6_check_20 : decode cX6_check 20 = .ok (.aload_n 0, 1) := dk_42 (dk_at dksX6_check_0 20 rfl rfl)
theorem dX6_check_21 : decode cX6_check 21 = .ok (.getfield 263, 3) := dk_180 1 7 (dk_at dksX6_check_0 21 rfl rfl)
theorem dX6_check_24 : decode cX6_check 24 = .ok (.ifCond .ge 8, 3) := dk_156 0 8 (dk_at dksX6_check_1 0 rfl rfl)
theorem dX6_check_27 : decode cX6_check 27 = .ok (.aload_n 0, 1) := dk_42 (dk_at dksX6_check_1 3 rfl rfl)
theorem dX6_check_28 : decode cX6_check 28 = .ok (.getfield 122, 3) := dk_180 0 122 (dk_at dksX6_check_1 4 rfl rfl)
theorem dX6_check_31 : decode cX6_check 31 = .ok (.ireturn, 1) := dk_172 (dk_at dksX6_check_1 7 rfl rfl)
theorem dX6_check_32 : decode cX6_check 32 = .ok (.aload_n 0, 1) := dk_42 (dk_at dksX6_check_1 8 rfl rfl)
theorem dX6_check_33 : decode cX6_check 33 = .ok (.iconst 1, 1) := dk_4 (dk_at dksX6_check_1 9 rfl rfl)
theorem dX6_check_34 : decode cX6_check 34 = .ok (.iconst 0, 1) := dk_3 (dk_at dksX6_check_1 10 rfl rfl)
theorem dX6_check_35 : decode cX6_check 35 = .ok (.invokevirtual 347, 3) := dk_182 1 91 (dk_at dksX6_check_1 11 rfl rfl)
theorem dX6_check_38 : decode cX6_check 38 = .ok (.iload_n 1, 1) := dk_27 (dk_at dksX6_check_1 14 rfl rfl)
theorem dX6_check_39 : decode cX6_check 39 = .ok (.ifCond .eq 14, 3) := dk_153 0 14 (dk_at dksX6_check_1 15 rfl rfl)
theorem dX6_check_42 : decode cX6_check 42 = .ok (.sipush (-2000), 3) := dk_17 248 48 (dk_at dksX6_check_1 18 rfl rfl)
theorem dX6_check_45 : decode cX6_check 45 = .ok (.aload_n 0, 1) := dk_42 (dk_at dksX6_check_1 21 rfl rfl)
theorem dX6_check_46 : decode cX6_check 46 = .ok (.getfield 263, 3) := dk_180 1 7 (dk_at dksX6_check_2 0 rfl rfl)
theorem dX6_check_49 : decode cX6_check 49 = .ok (.isub, 1) := dk_100 (dk_at dksX6_check_2 3 rfl rfl)
theorem dX6_check_50 : decode cX6_check 50 = .ok (.goto 11, 3) := dk_167 0 11 (dk_at dksX6_check_2 4 rfl rfl)
theorem dX6_check_53 : decode cX6_check 53 = .ok (.sipush (-1000), 3) := dk_17 252 24 (dk_at dksX6_check_2 7 rfl rfl)
theorem dX6_check_56 : decode cX6_check 56 = .ok (.aload_n 0, 1) := dk_42 (dk_at dksX6_check_2 10 rfl rfl)
theorem dX6_check_57 : decode cX6_check 57 = .ok (.getfield 256, 3) := dk_180 1 0 (dk_at dksX6_check_2 11 rfl rfl)
theorem dX6_check_60 : decode cX6_check 60 = .ok (.isub, 1) := dk_100 (dk_at dksX6_check_2 14 rfl rfl)
theorem dX6_check_61 : decode cX6_check 61 = .ok (.ireturn, 1) := dk_172 (dk_at dksX6_check_2 15 rfl rfl)
abbrev cX6_passesCheck : ByteArray := prog_25_method_70_code
def yX6_passesCheck : MethodName := ⟨RX6, "passesCheck", "(IZ)V"⟩
def dkwX6_passesCheck_6 : List UInt8 := [181, 0, 169, 42, 42, 42, 180, 0, 197, 182, 1, 108, 181, 0, 197, 177]
abbrev dktX6_passesCheck_6 : List UInt8 := dkwX6_passesCheck_6 ++ []
def dkwX6_passesCheck_5 : List UInt8 := [182, 1, 104, 42, 42, 42, 180, 0, 122, 182, 1, 108, 181, 0, 122, 42, 42, 42, 180, 0, 169, 182, 1, 108]
abbrev dktX6_passesCheck_5 : List UInt8 := dkwX6_passesCheck_5 ++ dktX6_passesCheck_6
def dkwX6_passesCheck_4 : List UInt8 := [182, 1, 104, 42, 42, 180, 0, 58, 182, 1, 104, 42, 42, 180, 0, 61, 182, 1, 104, 42, 42, 180, 0, 64]
abbrev dktX6_passesCheck_4 : List UInt8 := dkwX6_passesCheck_4 ++ dktX6_passesCheck_5
def dkwX6_passesCheck_3 : List UInt8 := [182, 1, 104, 42, 42, 180, 0, 49, 182, 1, 104, 42, 42, 180, 0, 52, 182, 1, 104, 42, 42, 180, 0, 55]
abbrev dktX6_passesCheck_3 : List UInt8 := dkwX6_passesCheck_3 ++ dktX6_passesCheck_4
def dkwX6_passesCheck_2 : List UInt8 := [182, 1, 104, 42, 42, 180, 0, 40, 182, 1, 104, 42, 42, 180, 0, 43, 182, 1, 104, 42, 42, 180, 0, 46]
abbrev dktX6_passesCheck_2 : List UInt8 := dkwX6_passesCheck_2 ++ dktX6_passesCheck_3
def dkwX6_passesCheck_1 : List UInt8 := [182, 1, 104, 42, 42, 180, 0, 31, 182, 1, 104, 42, 42, 180, 0, 34, 182, 1, 104, 42, 42, 180, 0, 37]
abbrev dktX6_passesCheck_1 : List UInt8 := dkwX6_passesCheck_1 ++ dktX6_passesCheck_2
def dkwX6_passesCheck_0 : List UInt8 := [42, 17, 1, 204, 27, 104, 16, 64, 96, 181, 1, 101, 42, 28, 181, 1, 97, 42, 42, 180, 0, 28]
abbrev dktX6_passesCheck_0 : List UInt8 := dkwX6_passesCheck_0 ++ dktX6_passesCheck_1
theorem dksX6_passesCheck_0 : cX6_passesCheck.data.toList.drop 0 = dktX6_passesCheck_0 := by decide +kernel
theorem dksX6_passesCheck_1 : cX6_passesCheck.data.toList.drop 22 = dktX6_passesCheck_1 := dk_seg dksX6_passesCheck_0 22 rfl rfl
theorem dksX6_passesCheck_2 : cX6_passesCheck.data.toList.drop 46 = dktX6_passesCheck_2 := dk_seg dksX6_passesCheck_1 24 rfl rfl
theorem dksX6_passesCheck_3 : cX6_passesCheck.data.toList.drop 70 = dktX6_passesCheck_3 := dk_seg dksX6_passesCheck_2 24 rfl rfl
theorem dksX6_passesCheck_4 : cX6_passesCheck.data.toList.drop 94 = dktX6_passesCheck_4 := dk_seg dksX6_passesCheck_3 24 rfl rfl
theorem dksX6_passesCheck_5 : cX6_passesCheck.data.toList.drop 118 = dktX6_passesCheck_5 := dk_seg dksX6_passesCheck_4 24 rfl rfl
theorem dksX6_passesCheck_6 : cX6_passesCheck.data.toList.drop 142 = dktX6_passesCheck_6 := dk_seg dksX6_passesCheck_5 24 rfl rfl
theorem dX6_passesCheck_0 : decode cX6_passesCheck 0 = .ok (.aload_n 0, 1) := dk_42 (dk_at dksX6_passesCheck_0 0 rfl rfl)
theorem dX6_passesCheck_1 : decode cX6_passesCheck 1 = .ok (.sipush 460, 3) := dk_17 1 204 (dk_at dksX6_passesCheck_0 1 rfl rfl)
theorem dX6_passesCheck_4 : decode cX6_passesCheck 4 = .ok (.iload_n 1, 1) := dk_27 (dk_at dksX6_passesCheck_0 4 rfl rfl)
theorem dX6_passesCheck_5 : decode cX6_passesCheck 5 = .ok (.imul, 1) := dk_104 (dk_at dksX6_passesCheck_0 5 rfl rfl)
theorem dX6_passesCheck_6 : decode cX6_passesCheck 6 = .ok (.bipush 64, 2) := dk_16 64 (dk_at dksX6_passesCheck_0 6 rfl rfl)
theorem dX6_passesCheck_8 : decode cX6_passesCheck 8 = .ok (.iadd, 1) := dk_96 (dk_at dksX6_passesCheck_0 8 rfl rfl)
theorem dX6_passesCheck_9 : decode cX6_passesCheck 9 = .ok (.putfield 357, 3) := dk_181 1 101 (dk_at dksX6_passesCheck_0 9 rfl rfl)
theorem dX6_passesCheck_12 : decode cX6_passesCheck 12 = .ok (.aload_n 0, 1) := dk_42 (dk_at dksX6_passesCheck_0 12 rfl rfl)
theorem dX6_passesCheck_13 : decode cX6_passesCheck 13 = .ok (.iload_n 2, 1) := dk_28 (dk_at dksX6_passesCheck_0 13 rfl rfl)
theorem dX6_passesCheck_14 : decode cX6_passesCheck 14 = .ok (.putfield 353, 3) := dk_181 1 97 (dk_at dksX6_passesCheck_0 14 rfl rfl)
theorem dX6_passesCheck_17 : decode cX6_passesCheck 17 = .ok (.aload_n 0, 1) := dk_42 (dk_at dksX6_passesCheck_0 17 rfl rfl)
theorem dX6_passesCheck_18 : decode cX6_passesCheck 18 = .ok (.aload_n 0, 1) := dk_42 (dk_at dksX6_passesCheck_0 18 rfl rfl)
theorem dX6_passesCheck_19 : decode cX6_passesCheck 19 = .ok (.getfield 28, 3) := dk_180 0 28 (dk_at dksX6_passesCheck_0 19 rfl rfl)
theorem dX6_passesCheck_22 : decode cX6_passesCheck 22 = .ok (.invokevirtual 360, 3) := dk_182 1 104 (dk_at dksX6_passesCheck_1 0 rfl rfl)
theorem dX6_passesCheck_25 : decode cX6_passesCheck 25 = .ok (.aload_n 0, 1) := dk_42 (dk_at dksX6_passesCheck_1 3 rfl rfl)
theorem dX6_passesCheck_26 : decode cX6_passesCheck 26 = .ok (.aload_n 0, 1) := dk_42 (dk_at dksX6_passesCheck_1 4 rfl rfl)
theorem dX6_passesCheck_27 : decode cX6_passesCheck 27 = .ok (.getfield 31, 3) := dk_180 0 31 (dk_at dksX6_passesCheck_1 5 rfl rfl)
theorem dX6_passesCheck_30 : decode cX6_passesCheck 30 = .ok (.invokevirtual 360, 3) := dk_182 1 104 (dk_at dksX6_passesCheck_1 8 rfl rfl)
theorem dX6_passesCheck_33 : decode cX6_passesCheck 33 = .ok (.aload_n 0, 1) := dk_42 (dk_at dksX6_passesCheck_1 11 rfl rfl)
theorem dX6_passesCheck_34 : decode cX6_passesCheck 34 = .ok (.aload_n 0, 1) := dk_42 (dk_at dksX6_passesCheck_1 12 rfl rfl)
theorem dX6_passesCheck_35 : decode cX6_passesCheck 35 = .ok (.getfield 34, 3) := dk_180 0 34 (dk_at dksX6_passesCheck_1 13 rfl rfl)
theorem dX6_passesCheck_38 : decode cX6_passesCheck 38 = .ok (.invokevirtual 360, 3) := dk_182 1 104 (dk_at dksX6_passesCheck_1 16 rfl rfl)
theorem dX6_passesCheck_41 : decode cX6_passesCheck 41 = .ok (.aload_n 0, 1) := dk_42 (dk_at dksX6_passesCheck_1 19 rfl rfl)
theorem dX6_passesCheck_42 : decode cX6_passesCheck 42 = .ok (.aload_n 0, 1) := dk_42 (dk_at dksX6_passesCheck_1 20 rfl rfl)
theorem dX6_passesCheck_43 : decode cX6_passesCheck 43 = .ok (.getfield 37, 3) := dk_180 0 37 (dk_at dksX6_passesCheck_1 21 rfl rfl)
theorem dX6_passesCheck_46 : decode cX6_passesCheck 46 = .ok (.invokevirtual 360, 3) := dk_182 1 104 (dk_at dksX6_passesCheck_2 0 rfl rfl)
theorem dX6_passesCheck_49 : decode cX6_passesCheck 49 = .ok (.aload_n 0, 1) := dk_42 (dk_at dksX6_passesCheck_2 3 rfl rfl)
theorem dX6_passesCheck_50 : decode cX6_passesCheck 50 = .ok (.aload_n 0, 1) := dk_42 (dk_at dksX6_passesCheck_2 4 rfl rfl)
theorem dX6_passesCheck_51 : decode cX6_passesCheck 51 = .ok (.getfield 40, 3) := dk_180 0 40 (dk_at dksX6_passesCheck_2 5 rfl rfl)
theorem dX6_passesCheck_54 : decode cX6_passesCheck 54 = .ok (.invokevirtual 360, 3) := dk_182 1 104 (dk_at dksX6_passesCheck_2 8 rfl rfl)
theorem dX6_passesCheck_57 : decode cX6_passesCheck 57 = .ok (.aload_n 0, 1) := dk_42 (dk_at dksX6_passesCheck_2 11 rfl rfl)
theorem dX6_passesCheck_58 : decode cX6_passesCheck 58 = .ok (.aload_n 0, 1) := dk_42 (dk_at dksX6_passesCheck_2 12 rfl rfl)
theorem dX6_passesCheck_59 : decode cX6_passesCheck 59 = .ok (.getfield 43, 3) := dk_180 0 43 (dk_at dksX6_passesCheck_2 13 rfl rfl)
theorem dX6_passesCheck_62 : decode cX6_passesCheck 62 = .ok (.invokevirtual 360, 3) := dk_182 1 104 (dk_at dksX6_passesCheck_2 16 rfl rfl)
theorem dX6_passesCheck_65 : decode cX6_passesCheck 65 = .ok (.aload_n 0, 1) := dk_42 (dk_at dksX6_passesCheck_2 19 rfl rfl)
theorem dX6_passesCheck_66 : decode cX6_passesCheck 66 = .ok (.aload_n 0, 1) := dk_42 (dk_at dksX6_passesCheck_2 20 rfl rfl)
theorem dX6_passesCheck_67 : decode cX6_passesCheck 67 = .ok (.getfield 46, 3) := dk_180 0 46 (dk_at dksX6_passesCheck_2 21 rfl rfl)
theorem dX6_passesCheck_70 : decode cX6_passesCheck 70 = .ok (.invokevirtual 360, 3) := dk_182 1 104 (dk_at dksX6_passesCheck_3 0 rfl rfl)
theorem dX6_passesCheck_73 : decode cX6_passesCheck 73 = .ok (.aload_n 0, 1) := dk_42 (dk_at dksX6_passesCheck_3 3 rfl rfl)
theorem dX6_passesCheck_74 : decode cX6_passesCheck 74 = .ok (.aload_n 0, 1) := dk_42 (dk_at dksX6_passesCheck_3 4 rfl rfl)
theorem dX6_passesCheck_75 : decode cX6_passesCheck 75 = .ok (.getfield 49, 3) := dk_180 0 49 (dk_at dksX6_passesCheck_3 5 rfl rfl)
theorem dX6_passesCheck_78 : decode cX6_passesCheck 78 = .ok (.invokevirtual 360, 3) := dk_182 1 104 (dk_at dksX6_passesCheck_3 8 rfl rfl)
theorem dX6_passesCheck_81 : decode cX6_passesCheck 81 = .ok (.aload_n 0, 1) := dk_42 (dk_at dksX6_passesCheck_3 11 rfl rfl)
theorem dX6_passesCheck_82 : decode cX6_passesCheck 82 = .ok (.aload_n 0, 1) := dk_42 (dk_at dksX6_passesCheck_3 12 rfl rfl)
theorem dX6_passesCheck_83 : decode cX6_passesCheck 83 = .ok (.getfield 52, 3) := dk_180 0 52 (dk_at dksX6_passesCheck_3 13 rfl rfl)
theorem dX6_passesCheck_86 : decode cX6_passesCheck 86 = .ok (.invokevirtual 360, 3) := dk_182 1 104 (dk_at dksX6_passesCheck_3 16 rfl rfl)
theorem dX6_passesCheck_89 : decode cX6_passesCheck 89 = .ok (.aload_n 0, 1) := dk_42 (dk_at dksX6_passesCheck_3 19 rfl rfl)
theorem dX6_passesCheck_90 : decode cX6_passesCheck 90 = .ok (.aload_n 0, 1) := dk_42 (dk_at dksX6_passesCheck_3 20 rfl rfl)
theorem dX6_passesCheck_91 : decode cX6_passesCheck 91 = .ok (.getfield 55, 3) := dk_180 0 55 (dk_at dksX6_passesCheck_3 21 rfl rfl)
theorem dX6_passesCheck_94 : decode cX6_passesCheck 94 = .ok (.invokevirtual 360, 3) := dk_182 1 104 (dk_at dksX6_passesCheck_4 0 rfl rfl)
theorem dX6_passesCheck_97 : decode cX6_passesCheck 97 = .ok (.aload_n 0, 1) := dk_42 (dk_at dksX6_passesCheck_4 3 rfl rfl)
theorem dX6_passesCheck_98 : decode cX6_passesCheck 98 = .ok (.aload_n 0, 1) := dk_42 (dk_at dksX6_passesCheck_4 4 rfl rfl)
theorem dX6_passesCheck_99 : decode cX6_passesCheck 99 = .ok (.getfield 58, 3) := dk_180 0 58 (dk_at dksX6_passesCheck_4 5 rfl rfl)
theorem dX6_passesCheck_102 : decode cX6_passesCheck 102 = .ok (.invokevirtual 360, 3) := dk_182 1 104 (dk_at dksX6_passesCheck_4 8 rfl rfl)
theorem dX6_passesCheck_105 : decode cX6_passesCheck 105 = .ok (.aload_n 0, 1) := dk_42 (dk_at dksX6_passesCheck_4 11 rfl rfl)
theorem dX6_passesCheck_106 : decode cX6_passesCheck 106 = .ok (.aload_n 0, 1) := dk_42 (dk_at dksX6_passesCheck_4 12 rfl rfl)
theorem dX6_passesCheck_107 : decode cX6_passesCheck 107 = .ok (.getfield 61, 3) := dk_180 0 61 (dk_at dksX6_passesCheck_4 13 rfl rfl)
theorem dX6_passesCheck_110 : decode cX6_passesCheck 110 = .ok (.invokevirtual 360, 3) := dk_182 1 104 (dk_at dksX6_passesCheck_4 16 rfl rfl)
theorem dX6_passesCheck_113 : decode cX6_passesCheck 113 = .ok (.aload_n 0, 1) := dk_42 (dk_at dksX6_passesCheck_4 19 rfl rfl)
theorem dX6_passesCheck_114 : decode cX6_passesCheck 114 = .ok (.aload_n 0, 1) := dk_42 (dk_at dksX6_passesCheck_4 20 rfl rfl)
theorem dX6_passesCheck_115 : decode cX6_passesCheck 115 = .ok (.getfield 64, 3) := dk_180 0 64 (dk_at dksX6_passesCheck_4 21 rfl rfl)
theorem dX6_passesCheck_118 : decode cX6_passesCheck 118 = .ok (.invokevirtual 360, 3) := dk_182 1 104 (dk_at dksX6_passesCheck_5 0 rfl rfl)
theorem dX6_passesCheck_121 : decode cX6_passesCheck 121 = .ok (.aload_n 0, 1) := dk_42 (dk_at dksX6_passesCheck_5 3 rfl rfl)
theorem dX6_passesCheck_122 : decode cX6_passesCheck 122 = .ok (.aload_n 0, 1) := dk_42 (dk_at dksX6_passesCheck_5 4 rfl rfl)
theorem dX6_passesCheck_123 : decode cX6_passesCheck 123 = .ok (.aload_n 0, 1) := dk_42 (dk_at dksX6_passesCheck_5 5 rfl rfl)
theorem dX6_passesCheck_124 : decode cX6_passesCheck 124 = .ok (.getfield 122, 3) := dk_180 0 122 (dk_at dksX6_passesCheck_5 6 rfl rfl)
theorem dX6_passesCheck_127 : decode cX6_passesCheck 127 = .ok (.invokevirtual 364, 3) := dk_182 1 108 (dk_at dksX6_passesCheck_5 9 rfl rfl)
theorem dX6_passesCheck_130 : decode cX6_passesCheck 130 = .ok (.putfield 122, 3) := dk_181 0 122 (dk_at dksX6_passesCheck_5 12 rfl rfl)
theorem dX6_passesCheck_133 : decode cX6_passesCheck 133 = .ok (.aload_n 0, 1) := dk_42 (dk_at dksX6_passesCheck_5 15 rfl rfl)
theorem dX6_passesCheck_134 : decode cX6_passesCheck 134 = .ok (.aload_n 0, 1) := dk_42 (dk_at dksX6_passesCheck_5 16 rfl rfl)
theorem dX6_passesCheck_135 : decode cX6_passesCheck 135 = .ok (.aload_n 0, 1) := dk_42 (dk_at dksX6_passesCheck_5 17 rfl rfl)
theorem dX6_passesCheck_136 : decode cX6_passesCheck 136 = .ok (.getfield 169, 3) := dk_180 0 169 (dk_at dksX6_passesCheck_5 18 rfl rfl)
theorem dX6_passesCheck_139 : decode cX6_passesCheck 139 = .ok (.invokevirtual 364, 3) := dk_182 1 108 (dk_at dksX6_passesCheck_5 21 rfl rfl)
theorem dX6_passesCheck_142 : decode cX6_passesCheck 142 = .ok (.putfield 169, 3) := dk_181 0 169 (dk_at dksX6_passesCheck_6 0 rfl rfl)
theorem dX6_passesCheck_145 : decode cX6_passesCheck 145 = .ok (.aload_n 0, 1) := dk_42 (dk_at dksX6_passesCheck_6 3 rfl rfl)
theorem dX6_passesCheck_146 : decode cX6_passesCheck 146 = .ok (.aload_n 0, 1) := dk_42 (dk_at dksX6_passesCheck_6 4 rfl rfl)
theorem dX6_passesCheck_147 : decode cX6_passesCheck 147 = .ok (.aload_n 0, 1) := dk_42 (dk_at dksX6_passesCheck_6 5 rfl rfl)
theorem dX6_passesCheck_148 : decode cX6_passesCheck 148 = .ok (.getfield 197, 3) := dk_180 0 197 (dk_at dksX6_passesCheck_6 6 rfl rfl)
theorem dX6_passesCheck_151 : decode cX6_passesCheck 151 = .ok (.invokevirtual 364, 3) := dk_182 1 108 (dk_at dksX6_passesCheck_6 9 rfl rfl)
theorem dX6_passesCheck_154 : decode cX6_passesCheck 154 = .ok (.putfield 197, 3) := dk_181 0 197 (dk_at dksX6_passesCheck_6 12 rfl rfl)
theorem dX6_passesCheck_157 : decode cX6_passesCheck 157 = .ok (.return_, 1) := dk_177 (dk_at dksX6_passesCheck_6 15 rfl rfl)
abbrev cX6_readsAllCheck : ByteArray := prog_25_method_65_code
def yX6_readsAllCheck : MethodName := ⟨RX6, "readsAllCheck", "()Z"⟩
def dkwX6_readsAllCheck_3 : List UInt8 := [180, 0, 250, 160, 0, 7, 4, 167, 0, 4, 3, 172]
abbrev dktX6_readsAllCheck_3 : List UInt8 := dkwX6_readsAllCheck_3 ++ []
def dkwX6_readsAllCheck_2 : List UInt8 := [180, 1, 10, 158, 0, 11, 42, 182, 1, 88, 60, 167, 255, 240, 27, 153, 0, 18, 42, 180, 1, 0, 42]
abbrev dktX6_readsAllCheck_2 : List UInt8 := dkwX6_readsAllCheck_2 ++ dktX6_readsAllCheck_3
def dkwX6_readsAllCheck_1 : List UInt8 := [181, 1, 64, 42, 3, 181, 0, 169, 42, 3, 181, 0, 197, 42, 182, 1, 76, 60, 27, 153, 0, 18, 42]
abbrev dktX6_readsAllCheck_1 : List UInt8 := dkwX6_readsAllCheck_1 ++ dktX6_readsAllCheck_2
def dkwX6_readsAllCheck_0 : List UInt8 := [42, 3, 181, 1, 0, 42, 2, 181, 1, 7, 42, 3, 181, 1, 10, 42, 3, 181, 0, 122, 42, 3]
abbrev dktX6_readsAllCheck_0 : List UInt8 := dkwX6_readsAllCheck_0 ++ dktX6_readsAllCheck_1
theorem dksX6_readsAllCheck_0 : cX6_readsAllCheck.data.toList.drop 0 = dktX6_readsAllCheck_0 := by decide +kernel
theorem dksX6_readsAllCheck_1 : cX6_readsAllCheck.data.toList.drop 22 = dktX6_readsAllCheck_1 := dk_seg dksX6_readsAllCheck_0 22 rfl rfl
theorem dksX6_readsAllCheck_2 : cX6_readsAllCheck.data.toList.drop 45 = dktX6_readsAllCheck_2 := dk_seg dksX6_readsAllCheck_1 23 rfl rfl
theorem dksX6_readsAllCheck_3 : cX6_readsAllCheck.data.toList.drop 68 = dktX6_readsAllCheck_3 := dk_seg dksX6_readsAllCheck_2 23 rfl rfl
theorem dX6_readsAllCheck_0 : decode cX6_readsAllCheck 0 = .ok (.aload_n 0, 1) := dk_42 (dk_at dksX6_readsAllCheck_0 0 rfl rfl)
theorem dX6_readsAllCheck_1 : decode cX6_readsAllCheck 1 = .ok (.iconst 0, 1) := dk_3 (dk_at dksX6_readsAllCheck_0 1 rfl rfl)
theorem dX6_readsAllCheck_2 : decode cX6_readsAllCheck 2 = .ok (.putfield 256, 3) := dk_181 1 0 (dk_at dksX6_readsAllCheck_0 2 rfl rfl)
theorem dX6_readsAllCheck_5 : decode cX6_readsAllCheck 5 = .ok (.aload_n 0, 1) := dk_42 (dk_at dksX6_readsAllCheck_0 5 rfl rfl)
theorem dX6_readsAllCheck_6 : decode cX6_readsAllCheck 6 = .ok (.iconst (-1), 1) := dk_2 (dk_at dksX6_readsAllCheck_0 6 rfl rfl)
theorem dX6_readsAllCheck_7 : decode cX6_readsAllCheck 7 = .ok (.putfield 263, 3) := dk_181 1 7 (dk_at dksX6_readsAllCheck_0 7 rfl rfl)
theorem dX6_readsAllCheck_10 : decode cX6_readsAllCheck 10 = .ok (.aload_n 0, 1) := dk_42 (dk_at dksX6_readsAllCheck_0 10 rfl rfl)
theorem dX6_readsAllCheck_11 : decode cX6_readsAllCheck 11 = .ok (.iconst 0, 1) := dk_3 (dk_at dksX6_readsAllCheck_0 11 rfl rfl)
theorem dX6_readsAllCheck_12 : decode cX6_readsAllCheck 12 = .ok (.putfield 266, 3) := dk_181 1 10 (dk_at dksX6_readsAllCheck_0 12 rfl rfl)
theorem dX6_readsAllCheck_15 : decode cX6_readsAllCheck 15 = .ok (.aload_n 0, 1) := dk_42 (dk_at dksX6_readsAllCheck_0 15 rfl rfl)
theorem dX6_readsAllCheck_16 : decode cX6_readsAllCheck 16 = .ok (.iconst 0, 1) := dk_3 (dk_at dksX6_readsAllCheck_0 16 rfl rfl)
theorem dX6_readsAllCheck_17 : decode cX6_readsAllCheck 17 = .ok (.putfield 122, 3) := dk_181 0 122 (dk_at dksX6_readsAllCheck_0 17 rfl rfl)
theorem dX6_readsAllCheck_20 : decode cX6_readsAllCheck 20 = .ok (.aload_n 0, 1) := dk_42 (dk_at dksX6_readsAllCheck_0 20 rfl rfl)
theorem dX6_readsAllCheck_21 : decode cX6_readsAllCheck 21 = .ok (.iconst 0, 1) := dk_3 (dk_at dksX6_readsAllCheck_0 21 rfl rfl)
theorem dX6_readsAllCheck_22 : decode cX6_readsAllCheck 22 = .ok (.putfield 320, 3) := dk_181 1 64 (dk_at dksX6_readsAllCheck_1 0 rfl rfl)
theorem dX6_readsAllCheck_25 : decode cX6_readsAllCheck 25 = .ok (.aload_n 0, 1) := dk_42 (dk_at dksX6_readsAllCheck_1 3 rfl rfl)
theorem dX6_readsAllCheck_26 : decode cX6_readsAllCheck 26 = .ok (.iconst 0, 1) := dk_3 (dk_at dksX6_readsAllCheck_1 4 rfl rfl)
theorem dX6_readsAllCheck_27 : decode cX6_readsAllCheck 27 = .ok (.putfield 169, 3) := dk_181 0 169 (dk_at dksX6_readsAllCheck_1 5 rfl rfl)
theorem dX6_readsAllCheck_30 : decode cX6_readsAllCheck 30 = .ok (.aload_n 0, 1) := dk_42 (dk_at dksX6_readsAllCheck_1 8 rfl rfl)
theorem dX6_readsAllCheck_31 : decode cX6_readsAllCheck 31 = .ok (.iconst 0, 1) := dk_3 (dk_at dksX6_readsAllCheck_1 9 rfl rfl)
theorem dX6_readsAllCheck_32 : decode cX6_readsAllCheck 32 = .ok (.putfield 197, 3) := dk_181 0 197 (dk_at dksX6_readsAllCheck_1 10 rfl rfl)
theorem dX6_readsAllCheck_35 : decode cX6_readsAllCheck 35 = .ok (.aload_n 0, 1) := dk_42 (dk_at dksX6_readsAllCheck_1 13 rfl rfl)
theorem dX6_readsAllCheck_36 : decode cX6_readsAllCheck 36 = .ok (.invokevirtual 332, 3) := dk_182 1 76 (dk_at dksX6_readsAllCheck_1 14 rfl rfl)
theorem dX6_readsAllCheck_39 : decode cX6_readsAllCheck 39 = .ok (.istore_n 1, 1) := dk_60 (dk_at dksX6_readsAllCheck_1 17 rfl rfl)
theorem dX6_readsAllCheck_40 : decode cX6_readsAllCheck 40 = .ok (.iload_n 1, 1) := dk_27 (dk_at dksX6_readsAllCheck_1 18 rfl rfl)
theorem dX6_readsAllCheck_41 : decode cX6_readsAllCheck 41 = .ok (.ifCond .eq 18, 3) := dk_153 0 18 (dk_at dksX6_readsAllCheck_1 19 rfl rfl)
theorem dX6_readsAllCheck_44 : decode cX6_readsAllCheck 44 = .ok (.aload_n 0, 1) := dk_42 (dk_at dksX6_readsAllCheck_1 22 rfl rfl)
theorem dX6_readsAllCheck_45 : decode cX6_readsAllCheck 45 = .ok (.getfield 266, 3) := dk_180 1 10 (dk_at dksX6_readsAllCheck_2 0 rfl rfl)
theorem dX6_readsAllCheck_48 : decode cX6_readsAllCheck 48 = .ok (.ifCond .le 11, 3) := dk_158 0 11 (dk_at dksX6_readsAllCheck_2 3 rfl rfl)
theorem dX6_readsAllCheck_51 : decode cX6_readsAllCheck 51 = .ok (.aload_n 0, 1) := dk_42 (dk_at dksX6_readsAllCheck_2 6 rfl rfl)
theorem dX6_readsAllCheck_52 : decode cX6_readsAllCheck 52 = .ok (.invokevirtual 344, 3) := dk_182 1 88 (dk_at dksX6_readsAllCheck_2 7 rfl rfl)
theorem dX6_readsAllCheck_55 : decode cX6_readsAllCheck 55 = .ok (.istore_n 1, 1) := dk_60 (dk_at dksX6_readsAllCheck_2 10 rfl rfl)
theorem dX6_readsAllCheck_56 : decode cX6_readsAllCheck 56 = .ok (.goto (-16), 3) := dk_167 255 240 (dk_at dksX6_readsAllCheck_2 11 rfl rfl)
theorem dX6_readsAllCheck_59 : decode cX6_readsAllCheck 59 = .ok (.iload_n 1, 1) := dk_27 (dk_at dksX6_readsAllCheck_2 14 rfl rfl)
theorem dX6_readsAllCheck_60 : decode cX6_readsAllCheck 60 = .ok (.ifCond .eq 18, 3) := dk_153 0 18 (dk_at dksX6_readsAllCheck_2 15 rfl rfl)
theorem dX6_readsAllCheck_63 : decode cX6_readsAllCheck 63 = .ok (.aload_n 0, 1) := dk_42 (dk_at dksX6_readsAllCheck_2 18 rfl rfl)
theorem dX6_readsAllCheck_64 : decode cX6_readsAllCheck 64 = .ok (.getfield 256, 3) := dk_180 1 0 (dk_at dksX6_readsAllCheck_2 19 rfl rfl)
theorem dX6_readsAllCheck_67 : decode cX6_readsAllCheck 67 = .ok (.aload_n 0, 1) := dk_42 (dk_at dksX6_readsAllCheck_2 22 rfl rfl)
theorem dX6_readsAllCheck_68 : decode cX6_readsAllCheck 68 = .ok (.getfield 250, 3) := dk_180 0 250 (dk_at dksX6_readsAllCheck_3 0 rfl rfl)
theorem dX6_readsAllCheck_71 : decode cX6_readsAllCheck 71 = .ok (.if_icmp .ne 7, 3) := dk_160 0 7 (dk_at dksX6_readsAllCheck_3 3 rfl rfl)
theorem dX6_readsAllCheck_74 : decode cX6_readsAllCheck 74 = .ok (.iconst 1, 1) := dk_4 (dk_at dksX6_readsAllCheck_3 6 rfl rfl)
theorem dX6_readsAllCheck_75 : decode cX6_readsAllCheck 75 = .ok (.goto 4, 3) := dk_167 0 4 (dk_at dksX6_readsAllCheck_3 7 rfl rfl)
theorem dX6_readsAllCheck_78 : decode cX6_readsAllCheck 78 = .ok (.iconst 0, 1) := dk_3 (dk_at dksX6_readsAllCheck_3 10 rfl rfl)
theorem dX6_readsAllCheck_79 : decode cX6_readsAllCheck 79 = .ok (.ireturn, 1) := dk_172 (dk_at dksX6_readsAllCheck_3 11 rfl rfl)
abbrev cX6_readsCheck : ByteArray := prog_25_method_60_code
def yX6_readsCheck : MethodName := ⟨RX6, "readsCheck", "()Z"⟩
def dkwX6_readsCheck_5 : List UInt8 := [160, 0, 11, 42, 29, 182, 1, 73, 167, 0, 10, 42, 29, 27, 28, 182, 1, 29, 4, 172]
abbrev dktX6_readsCheck_5 : List UInt8 := dkwX6_readsCheck_5 ++ []
def dkwX6_readsCheck_4 : List UInt8 := [4, 182, 1, 70, 154, 0, 5, 3, 172, 27, 16, 42, 159, 0, 15, 27, 16, 35, 159, 0, 9, 27, 16, 94]
abbrev dktX6_readsCheck_4 : List UInt8 := dkwX6_readsCheck_4 ++ dktX6_readsCheck_5
def dkwX6_readsCheck_3 : List UInt8 := [62, 27, 16, 35, 160, 0, 12, 42, 29, 5, 182, 1, 70, 153, 0, 18, 27, 16, 64, 160, 0, 14, 42, 29]
abbrev dktX6_readsCheck_3 : List UInt8 := dkwX6_readsCheck_3 ++ dktX6_readsCheck_4
def dkwX6_readsCheck_2 : List UInt8 := [16, 38, 159, 0, 17, 27, 16, 47, 159, 0, 11, 27, 16, 94, 159, 0, 5, 3, 172, 42, 27, 182, 1, 67]
abbrev dktX6_readsCheck_2 : List UInt8 := dkwX6_readsCheck_2 ++ dktX6_readsCheck_3
def dkwX6_readsCheck_1 : List UInt8 := [16, 33, 159, 0, 41, 27, 16, 126, 159, 0, 35, 27, 16, 123, 159, 0, 29, 27, 16, 64, 159, 0, 23, 27]
abbrev dktX6_readsCheck_1 : List UInt8 := dkwX6_readsCheck_1 ++ dktX6_readsCheck_2
def dkwX6_readsCheck_0 : List UInt8 := [42, 182, 1, 3, 60, 42, 182, 1, 61, 61, 27, 16, 42, 159, 0, 53, 27, 16, 35, 159, 0, 47, 27]
abbrev dktX6_readsCheck_0 : List UInt8 := dkwX6_readsCheck_0 ++ dktX6_readsCheck_1
theorem dksX6_readsCheck_0 : cX6_readsCheck.data.toList.drop 0 = dktX6_readsCheck_0 := by decide +kernel
theorem dksX6_readsCheck_1 : cX6_readsCheck.data.toList.drop 23 = dktX6_readsCheck_1 := dk_seg dksX6_readsCheck_0 23 rfl rfl
theorem dksX6_readsCheck_2 : cX6_readsCheck.data.toList.drop 47 = dktX6_readsCheck_2 := dk_seg dksX6_readsCheck_1 24 rfl rfl
theorem dksX6_readsCheck_3 : cX6_readsCheck.data.toList.drop 71 = dktX6_readsCheck_3 := dk_seg dksX6_readsCheck_2 24 rfl rfl
theorem dksX6_readsCheck_4 : cX6_readsCheck.data.toList.drop 95 = dktX6_readsCheck_4 := dk_seg dksX6_readsCheck_3 24 rfl rfl
theorem dksX6_readsCheck_5 : cX6_readsCheck.data.toList.drop 119 = dktX6_readsCheck_5 := dk_seg dksX6_readsCheck_4 24 rfl rfl
theorem dX6_readsCheck_0 : decode cX6_readsCheck 0 = .ok (.aload_n 0, 1) := dk_42 (dk_at dksX6_readsCheck_0 0 rfl rfl)
theorem dX6_readsCheck_1 : decode cX6_readsCheck 1 = .ok (.invokevirtual 259, 3) := dk_182 1 3 (dk_at dksX6_readsCheck_0 1 rfl rfl)
theorem dX6_readsCheck_4 : decode cX6_readsCheck 4 = .ok (.istore_n 1, 1) := dk_60 (dk_at dksX6_readsCheck_0 4 rfl rfl)
theorem dX6_readsCheck_5 : decode cX6_readsCheck 5 = .ok (.aload_n 0, 1) := dk_42 (dk_at dksX6_readsCheck_0 5 rfl rfl)
theorem dX6_readsCheck_6 : decode cX6_readsCheck 6 = .ok (.invokevirtual 317, 3) := dk_182 1 61 (dk_at dksX6_readsCheck_0 6 rfl rfl)
theorem dX6_readsCheck_9 : decode cX6_readsCheck 9 = .ok (.istore_n 2, 1) := dk_61 (dk_at dksX6_readsCheck_0 9 rfl rfl)
theorem dX6_readsCheck_10 : decode cX6_readsCheck 10 = .ok (.iload_n 1, 1) := dk_27 (dk_at dksX6_readsCheck_0 10 rfl rfl)
theorem dX6_readsCheck_11 : decode cX6_readsCheck 11 = .ok (.bipush 42, 2) := dk_16 42 (dk_at dksX6_readsCheck_0 11 rfl rfl)
theorem dX6_readsCheck_13 : decode cX6_readsCheck 13 = .ok (.if_icmp .eq 53, 3) := dk_159 0 53 (dk_at dksX6_readsCheck_0 13 rfl rfl)
theorem dX6_readsCheck_16 : decode cX6_readsCheck 16 = .ok (.iload_n 1, 1) := dk_27 (dk_at dksX6_readsCheck_0 16 rfl rfl)
theorem dX6_readsCheck_17 : decode cX6_readsCheck 17 = .ok (.bipush 35, 2) := dk_16 35 (dk_at dksX6_readsCheck_0 17 rfl rfl)
theorem dX6_readsCheck_19 : decode cX6_readsCheck 19 = .ok (.if_icmp .eq 47, 3) := dk_159 0 47 (dk_at dksX6_readsCheck_0 19 rfl rfl)
theorem dX6_readsCheck_22 : decode cX6_readsCheck 22 = .ok (.iload_n 1, 1) := dk_27 (dk_at dksX6_readsCheck_0 22 rfl rfl)
theorem dX6_readsCheck_23 : decode cX6_readsCheck 23 = .ok (.bipush 33, 2) := dk_16 33 (dk_at dksX6_readsCheck_1 0 rfl rfl)
theorem dX6_readsCheck_25 : decode cX6_readsCheck 25 = .ok (.if_icmp .eq 41, 3) := dk_159 0 41 (dk_at dksX6_readsCheck_1 2 rfl rfl)
theorem dX6_readsCheck_28 : decode cX6_readsCheck 28 = .ok (.iload_n 1, 1) := dk_27 (dk_at dksX6_readsCheck_1 5 rfl rfl)
theorem dX6_readsCheck_29 : decode cX6_readsCheck 29 = .ok (.bipush 126, 2) := dk_16 126 (dk_at dksX6_readsCheck_1 6 rfl rfl)
theorem dX6_readsCheck_31 : decode cX6_readsCheck 31 = .ok (.if_icmp .eq 35, 3) := dk_159 0 35 (dk_at dksX6_readsCheck_1 8 rfl rfl)
theorem dX6_readsCheck_34 : decode cX6_readsCheck 34 = .ok (.iload_n 1, 1) := dk_27 (dk_at dksX6_readsCheck_1 11 rfl rfl)
theorem dX6_readsCheck_35 : decode cX6_readsCheck 35 = .ok (.bipush 123, 2) := dk_16 123 (dk_at dksX6_readsCheck_1 12 rfl rfl)
theorem dX6_readsCheck_37 : decode cX6_readsCheck 37 = .ok (.if_icmp .eq 29, 3) := dk_159 0 29 (dk_at dksX6_readsCheck_1 14 rfl rfl)
theorem dX6_readsCheck_40 : decode cX6_readsCheck 40 = .ok (.iload_n 1, 1) := dk_27 (dk_at dksX6_readsCheck_1 17 rfl rfl)
theorem dX6_readsCheck_41 : decode cX6_readsCheck 41 = .ok (.bipush 64, 2) := dk_16 64 (dk_at dksX6_readsCheck_1 18 rfl rfl)
theorem dX6_readsCheck_43 : decode cX6_readsCheck 43 = .ok (.if_icmp .eq 23, 3) := dk_159 0 23 (dk_at dksX6_readsCheck_1 20 rfl rfl)
theorem dX6_readsCheck_46 : decode cX6_readsCheck 46 = .ok (.iload_n 1, 1) := dk_27 (dk_at dksX6_readsCheck_1 23 rfl rfl)
theorem dX6_readsCheck_47 : decode cX6_readsCheck 47 = .ok (.bipush 38, 2) := dk_16 38 (dk_at dksX6_readsCheck_2 0 rfl rfl)
theorem dX6_readsCheck_49 : decode cX6_readsCheck 49 = .ok (.if_icmp .eq 17, 3) := dk_159 0 17 (dk_at dksX6_readsCheck_2 2 rfl rfl)
theorem dX6_readsCheck_52 : decode cX6_readsCheck 52 = .ok (.iload_n 1, 1) := dk_27 (dk_at dksX6_readsCheck_2 5 rfl rfl)
theorem dX6_readsCheck_53 : decode cX6_readsCheck 53 = .ok (.bipush 47, 2) := dk_16 47 (dk_at dksX6_readsCheck_2 6 rfl rfl)
theorem dX6_readsCheck_55 : decode cX6_readsCheck 55 = .ok (.if_icmp .eq 11, 3) := dk_159 0 11 (dk_at dksX6_readsCheck_2 8 rfl rfl)
theorem dX6_readsCheck_58 : decode cX6_readsCheck 58 = .ok (.iload_n 1, 1) := dk_27 (dk_at dksX6_readsCheck_2 11 rfl rfl)
theorem dX6_readsCheck_59 : decode cX6_readsCheck 59 = .ok (.bipush 94, 2) := dk_16 94 (dk_at dksX6_readsCheck_2 12 rfl rfl)
theorem dX6_readsCheck_61 : decode cX6_readsCheck 61 = .ok (.if_icmp .eq 5, 3) := dk_159 0 5 (dk_at dksX6_readsCheck_2 14 rfl rfl)
theorem dX6_readsCheck_64 : decode cX6_readsCheck 64 = .ok (.iconst 0, 1) := dk_3 (dk_at dksX6_readsCheck_2 17 rfl rfl)
theorem dX6_readsCheck_65 : decode cX6_readsCheck 65 = .ok (.ireturn, 1) := dk_172 (dk_at dksX6_readsCheck_2 18 rfl rfl)
theorem dX6_readsCheck_66 : decode cX6_readsCheck 66 = .ok (.aload_n 0, 1) := dk_42 (dk_at dksX6_readsCheck_2 19 rfl rfl)
theorem dX6_readsCheck_67 : decode cX6_readsCheck 67 = .ok (.iload_n 1, 1) := dk_27 (dk_at dksX6_readsCheck_2 20 rfl rfl)
theorem dX6_readsCheck_68 : decode cX6_readsCheck 68 = .ok (.invokevirtual 323, 3) := dk_182 1 67 (dk_at dksX6_readsCheck_2 21 rfl rfl)
theorem dX6_readsCheck_71 : decode cX6_readsCheck 71 = .ok (.istore_n 3, 1) := dk_62 (dk_at dksX6_readsCheck_3 0 rfl rfl)
theorem dX6_readsCheck_72 : decode cX6_readsCheck 72 = .ok (.iload_n 1, 1) := dk_27 (dk_at dksX6_readsCheck_3 1 rfl rfl)
theorem dX6_readsCheck_73 : decode cX6_readsCheck 73 = .ok (.bipush 35, 2) := dk_16 35 (dk_at dksX6_readsCheck_3 2 rfl rfl)
theorem dX6_readsCheck_75 : decode cX6_readsCheck 75 = .ok (.if_icmp .ne 12, 3) := dk_160 0 12 (dk_at dksX6_readsCheck_3 4 rfl rfl)
theorem dX6_readsCheck_78 : decode cX6_readsCheck 78 = .ok (.aload_n 0, 1) := dk_42 (dk_at dksX6_readsCheck_3 7 rfl rfl)
theorem dX6_readsCheck_79 : decode cX6_readsCheck 79 = .ok (.iload_n 3, 1) := dk_29 (dk_at dksX6_readsCheck_3 8 rfl rfl)
theorem dX6_readsCheck_80 : decode cX6_readsCheck 80 = .ok (.iconst 2, 1) := dk_5 (dk_at dksX6_readsCheck_3 9 rfl rfl)
theorem dX6_readsCheck_81 : decode cX6_readsCheck 81 = .ok (.invokevirtual 326, 3) := dk_182 1 70 (dk_at dksX6_readsCheck_3 10 rfl rfl)
theorem dX6_readsCheck_84 : decode cX6_readsCheck 84 = .ok (.ifCond .eq 18, 3) := dk_153 0 18 (dk_at dksX6_readsCheck_3 13 rfl rfl)
theorem dX6_readsCheck_87 : decode cX6_readsCheck 87 = .ok (.iload_n 1, 1) := dk_27 (dk_at dksX6_readsCheck_3 16 rfl rfl)
theorem dX6_readsCheck_88 : decode cX6_readsCheck 88 = .ok (.bipush 64, 2) := dk_16 64 (dk_at dksX6_readsCheck_3 17 rfl rfl)
theorem dX6_readsCheck_90 : decode cX6_readsCheck 90 = .ok (.if_icmp .ne 14, 3) := dk_160 0 14 (dk_at dksX6_readsCheck_3 19 rfl rfl)
theorem dX6_readsCheck_93 : decode cX6_readsCheck 93 = .ok (.aload_n 0, 1) := dk_42 (dk_at dksX6_readsCheck_3 22 rfl rfl)
theorem dX6_readsCheck_94 : decode cX6_readsCheck 94 = .ok (.iload_n 3, 1) := dk_29 (dk_at dksX6_readsCheck_3 23 rfl rfl)
theorem dX6_readsCheck_95 : decode cX6_readsCheck 95 = .ok (.iconst 1, 1) := dk_4 (dk_at dksX6_readsCheck_4 0 rfl rfl)
theorem dX6_readsCheck_96 : decode cX6_readsCheck 96 = .ok (.invokevirtual 326, 3) := dk_182 1 70 (dk_at dksX6_readsCheck_4 1 rfl rfl)
theorem dX6_readsCheck_99 : decode cX6_readsCheck 99 = .ok (.ifCond .ne 5, 3) := dk_154 0 5 (dk_at dksX6_readsCheck_4 4 rfl rfl)
theorem dX6_readsCheck_102 : decode cX6_readsCheck 102 = .ok (.iconst 0, 1) := dk_3 (dk_at dksX6_readsCheck_4 7 rfl rfl)
theorem dX6_readsCheck_103 : decode cX6_readsCheck 103 = .ok (.ireturn, 1) := dk_172 (dk_at dksX6_readsCheck_4 8 rfl rfl)
theorem dX6_readsCheck_104 : decode cX6_readsCheck 104 = .ok (.iload_n 1, 1) := dk_27 (dk_at dksX6_readsCheck_4 9 rfl rfl)
theorem dX6_readsCheck_105 : decode cX6_readsCheck 105 = .ok (.bipush 42, 2) := dk_16 42 (dk_at dksX6_readsCheck_4 10 rfl rfl)
theorem dX6_readsCheck_107 : decode cX6_readsCheck 107 = .ok (.if_icmp .eq 15, 3) := dk_159 0 15 (dk_at dksX6_readsCheck_4 12 rfl rfl)
theorem dX6_readsCheck_110 : decode cX6_readsCheck 110 = .ok (.iload_n 1, 1) := dk_27 (dk_at dksX6_readsCheck_4 15 rfl rfl)
theorem dX6_readsCheck_111 : decode cX6_readsCheck 111 = .ok (.bipush 35, 2) := dk_16 35 (dk_at dksX6_readsCheck_4 16 rfl rfl)
theorem dX6_readsCheck_113 : decode cX6_readsCheck 113 = .ok (.if_icmp .eq 9, 3) := dk_159 0 9 (dk_at dksX6_readsCheck_4 18 rfl rfl)
theorem dX6_readsCheck_116 : decode cX6_readsCheck 116 = .ok (.iload_n 1, 1) := dk_27 (dk_at dksX6_readsCheck_4 21 rfl rfl)
theorem dX6_readsCheck_117 : decode cX6_readsCheck 117 = .ok (.bipush 94, 2) := dk_16 94 (dk_at dksX6_readsCheck_4 22 rfl rfl)
theorem dX6_readsCheck_119 : decode cX6_readsCheck 119 = .ok (.if_icmp .ne 11, 3) := dk_160 0 11 (dk_at dksX6_readsCheck_5 0 rfl rfl)
theorem dX6_readsCheck_122 : decode cX6_readsCheck 122 = .ok (.aload_n 0, 1) := dk_42 (dk_at dksX6_readsCheck_5 3 rfl rfl)
theorem dX6_readsCheck_123 : decode cX6_readsCheck 123 = .ok (.iload_n 3, 1) := dk_29 (dk_at dksX6_readsCheck_5 4 rfl rfl)
theorem dX6_readsCheck_124 : decode cX6_readsCheck 124 = .ok (.invokevirtual 329, 3) := dk_182 1 73 (dk_at dksX6_readsCheck_5 5 rfl rfl)
theorem dX6_readsCheck_127 : decode cX6_readsCheck 127 = .ok (.goto 10, 3) := dk_167 0 10 (dk_at dksX6_readsCheck_5 8 rfl rfl)
theorem dX6_readsCheck_130 : decode cX6_readsCheck 130 = .ok (.aload_n 0, 1) := dk_42 (dk_at dksX6_readsCheck_5 11 rfl rfl)
theorem dX6_readsCheck_131 : decode cX6_readsCheck 131 = .ok (.iload_n 3, 1) := dk_29 (dk_at dksX6_readsCheck_5 12 rfl rfl)
theorem dX6_readsCheck_132 : decode cX6_readsCheck 132 = .ok (.iload_n 1, 1) := dk_27 (dk_at dksX6_readsCheck_5 13 rfl rfl)
theorem dX6_readsCheck_133 : decode cX6_readsCheck 133 = .ok (.iload_n 2, 1) := dk_28 (dk_at dksX6_readsCheck_5 14 rfl rfl)
theorem dX6_readsCheck_134 : decode cX6_readsCheck 134 = .ok (.invokevirtual 285, 3) := dk_182 1 29 (dk_at dksX6_readsCheck_5 15 rfl rfl)
theorem dX6_readsCheck_137 : decode cX6_readsCheck 137 = .ok (.iconst 1, 1) := dk_4 (dk_at dksX6_readsCheck_5 18 rfl rfl)
theorem dX6_readsCheck_138 : decode cX6_readsCheck 138 = .ok (.ireturn, 1) := dk_172 (dk_at dksX6_readsCheck_5 19 rfl rfl)
abbrev cX6_isInside : ByteArray := prog_25_method_56_code
def yX6_isInside : MethodName := ⟨RX6, "isInside", "()Z"⟩
def dkwX6_isInside_2 : List UInt8 := [100, 46, 16, 64, 160, 0, 7, 4, 167, 0, 4, 3, 172]
abbrev dktX6_isInside_2 : List UInt8 := dkwX6_isInside_2 ++ []
def dkwX6_isInside_1 : List UInt8 := [180, 0, 100, 42, 180, 1, 10, 4, 100, 46, 16, 123, 159, 0, 19, 42, 180, 0, 100, 42, 180, 1, 10, 4]
abbrev dktX6_isInside_1 : List UInt8 := dkwX6_isInside_1 ++ dktX6_isInside_2
def dkwX6_isInside_0 : List UInt8 := [42, 180, 1, 10, 158, 0, 54, 42, 180, 0, 109, 42, 180, 1, 10, 4, 100, 46, 4, 159, 0, 35, 42]
abbrev dktX6_isInside_0 : List UInt8 := dkwX6_isInside_0 ++ dktX6_isInside_1
theorem dksX6_isInside_0 : cX6_isInside.data.toList.drop 0 = dktX6_isInside_0 := by decide +kernel
theorem dksX6_isInside_1 : cX6_isInside.data.toList.drop 23 = dktX6_isInside_1 := dk_seg dksX6_isInside_0 23 rfl rfl
theorem dksX6_isInside_2 : cX6_isInside.data.toList.drop 47 = dktX6_isInside_2 := dk_seg dksX6_isInside_1 24 rfl rfl
theorem dX6_isInside_0 : decode cX6_isInside 0 = .ok (.aload_n 0, 1) := dk_42 (dk_at dksX6_isInside_0 0 rfl rfl)
theorem dX6_isInside_1 : decode cX6_isInside 1 = .ok (.getfield 266, 3) := dk_180 1 10 (dk_at dksX6_isInside_0 1 rfl rfl)
theorem dX6_isInside_4 : decode cX6_isInside 4 = .ok (.ifCond .le 54, 3) := dk_158 0 54 (dk_at dksX6_isInside_0 4 rfl rfl)
theorem dX6_isInside_7 : decode cX6_isInside 7 = .ok (.aload_n 0, 1) := dk_42 (dk_at dksX6_isInside_0 7 rfl rfl)
theorem dX6_isInside_8 : decode cX6_isInside 8 = .ok (.getfield 109, 3) := dk_180 0 109 (dk_at dksX6_isInside_0 8 rfl rfl)
theorem dX6_isInside_11 : decode cX6_isInside 11 = .ok (.aload_n 0, 1) := dk_42 (dk_at dksX6_isInside_0 11 rfl rfl)
theorem dX6_isInside_12 : decode cX6_isInside 12 = .ok (.getfield 266, 3) := dk_180 1 10 (dk_at dksX6_isInside_0 12 rfl rfl)
theorem dX6_isInside_15 : decode cX6_isInside 15 = .ok (.iconst 1, 1) := dk_4 (dk_at dksX6_isInside_0 15 rfl rfl)
theorem dX6_isInside_16 : decode cX6_isInside 16 = .ok (.isub, 1) := dk_100 (dk_at dksX6_isInside_0 16 rfl rfl)
theorem dX6_isInside_17 : decode cX6_isInside 17 = .ok (.iaload, 1) := dk_46 (dk_at dksX6_isInside_0 17 rfl rfl)
theorem dX6_isInside_18 : decode cX6_isInside 18 = .ok (.iconst 1, 1) := dk_4 (dk_at dksX6_isInside_0 18 rfl rfl)
theorem dX6_isInside_19 : decode cX6_isInside 19 = .ok (.if_icmp .eq 35, 3) := dk_159 0 35 (dk_at dksX6_isInside_0 19 rfl rfl)
theorem dX6_isInside_22 : decode cX6_isInside 22 = .ok (.aload_n 0, 1) := dk_42 (dk_at dksX6_isInside_0 22 rfl rfl)
theorem dX6_isInside_23 : decode cX6_isInside 23 = .ok (.getfield 100, 3) := dk_180 0 100 (dk_at dksX6_isInside_1 0 rfl rfl)
theorem dX6_isInside_26 : decode cX6_isInside 26 = .ok (.aload_n 0, 1) := dk_42 (dk_at dksX6_isInside_1 3 rfl rfl)
theorem dX6_isInside_27 : decode cX6_isInside 27 = .ok (.getfield 266, 3) := dk_180 1 10 (dk_at dksX6_isInside_1 4 rfl rfl)
theorem dX6_isInside_30 : decode cX6_isInside 30 = .ok (.iconst 1, 1) := dk_4 (dk_at dksX6_isInside_1 7 rfl rfl)
theorem dX6_isInside_31 : decode cX6_isInside 31 = .ok (.isub, 1) := dk_100 (dk_at dksX6_isInside_1 8 rfl rfl)
theorem dX6_isInside_32 : decode cX6_isInside 32 = .ok (.iaload, 1) := dk_46 (dk_at dksX6_isInside_1 9 rfl rfl)
theorem dX6_isInside_33 : decode cX6_isInside 33 = .ok (.bipush 123, 2) := dk_16 123 (dk_at dksX6_isInside_1 10 rfl rfl)
theorem dX6_isInside_35 : decode cX6_isInside 35 = .ok (.if_icmp .eq 19, 3) := dk_159 0 19 (dk_at dksX6_isInside_1 12 rfl rfl)
theorem dX6_isInside_38 : decode cX6_isInside 38 = .ok (.aload_n 0, 1) := dk_42 (dk_at dksX6_isInside_1 15 rfl rfl)
theorem dX6_isInside_39 : decode cX6_isInside 39 = .ok (.getfield 100, 3) := dk_180 0 100 (dk_at dksX6_isInside_1 16 rfl rfl)
theorem dX6_isInside_42 : decode cX6_isInside 42 = .ok (.aload_n 0, 1) := dk_42 (dk_at dksX6_isInside_1 19 rfl rfl)
theorem dX6_isInside_43 : decode cX6_isInside 43 = .ok (.getfield 266, 3) := dk_180 1 10 (dk_at dksX6_isInside_1 20 rfl rfl)
theorem dX6_isInside_46 : decode cX6_isInside 46 = .ok (.iconst 1, 1) := dk_4 (dk_at dksX6_isInside_1 23 rfl rfl)
theorem dX6_isInside_47 : decode cX6_isInside 47 = .ok (.isub, 1) := dk_100 (dk_at dksX6_isInside_2 0 rfl rfl)
theorem dX6_isInside_48 : decode cX6_isInside 48 = .ok (.iaload, 1) := dk_46 (dk_at dksX6_isInside_2 1 rfl rfl)
theorem dX6_isInside_49 : decode cX6_isInside 49 = .ok (.bipush 64, 2) := dk_16 64 (dk_at dksX6_isInside_2 2 rfl rfl)
theorem dX6_isInside_51 : decode cX6_isInside 51 = .ok (.if_icmp .ne 7, 3) := dk_160 0 7 (dk_at dksX6_isInside_2 4 rfl rfl)
theorem dX6_isInside_54 : decode cX6_isInside 54 = .ok (.iconst 1, 1) := dk_4 (dk_at dksX6_isInside_2 7 rfl rfl)
theorem dX6_isInside_55 : decode cX6_isInside 55 = .ok (.goto 4, 3) := dk_167 0 4 (dk_at dksX6_isInside_2 8 rfl rfl)
theorem dX6_isInside_58 : decode cX6_isInside 58 = .ok (.iconst 0, 1) := dk_3 (dk_at dksX6_isInside_2 11 rfl rfl)
theorem dX6_isInside_59 : decode cX6_isInside 59 = .ok (.ireturn, 1) := dk_172 (dk_at dksX6_isInside_2 12 rfl rfl)
abbrev cX6_beginsCheck : ByteArray := prog_25_method_57_code
def yX6_beginsCheck : MethodName := ⟨RX6, "beginsCheck", "(I)I"⟩
def dkwX6_beginsCheck_5 : List UInt8 := [180, 0, 122, 4, 96, 181, 0, 122, 42, 89, 180, 1, 0, 4, 96, 181, 1, 0, 28, 172]
abbrev dktX6_beginsCheck_5 : List UInt8 := dkwX6_beginsCheck_5 ++ []
def dkwX6_beginsCheck_4 : List UInt8 := [180, 0, 34, 28, 3, 79, 42, 180, 0, 37, 28, 3, 79, 42, 180, 0, 40, 28, 3, 79, 42, 89]
abbrev dktX6_beginsCheck_4 : List UInt8 := dkwX6_beginsCheck_4 ++ dktX6_beginsCheck_5
def dkwX6_beginsCheck_3 : List UInt8 := [167, 0, 4, 3, 96, 181, 1, 64, 42, 180, 0, 28, 28, 27, 79, 42, 180, 0, 31, 28, 3, 79, 42]
abbrev dktX6_beginsCheck_3 : List UInt8 := dkwX6_beginsCheck_3 ++ dktX6_beginsCheck_4
def dkwX6_beginsCheck_2 : List UInt8 := [160, 0, 11, 42, 42, 180, 1, 0, 182, 1, 13, 42, 89, 180, 1, 64, 27, 16, 94, 160, 0, 7, 4]
abbrev dktX6_beginsCheck_2 : List UInt8 := dkwX6_beginsCheck_2 ++ dktX6_beginsCheck_3
def dkwX6_beginsCheck_1 : List UInt8 := [16, 24, 162, 0, 24, 27, 16, 94, 160, 0, 26, 42, 182, 1, 61, 153, 0, 11, 42, 180, 1, 64, 6]
abbrev dktX6_beginsCheck_1 : List UInt8 := dkwX6_beginsCheck_1 ++ dktX6_beginsCheck_2
def dkwX6_beginsCheck_0 : List UInt8 := [42, 180, 0, 122, 16, 24, 162, 0, 10, 42, 180, 0, 122, 167, 0, 5, 16, 24, 61, 42, 180, 0, 122]
abbrev dktX6_beginsCheck_0 : List UInt8 := dkwX6_beginsCheck_0 ++ dktX6_beginsCheck_1
theorem dksX6_beginsCheck_0 : cX6_beginsCheck.data.toList.drop 0 = dktX6_beginsCheck_0 := by decide +kernel
theorem dksX6_beginsCheck_1 : cX6_beginsCheck.data.toList.drop 23 = dktX6_beginsCheck_1 := dk_seg dksX6_beginsCheck_0 23 rfl rfl
theorem dksX6_beginsCheck_2 : cX6_beginsCheck.data.toList.drop 46 = dktX6_beginsCheck_2 := dk_seg dksX6_beginsCheck_1 23 rfl rfl
theorem dksX6_beginsCheck_3 : cX6_beginsCheck.data.toList.drop 69 = dktX6_beginsCheck_3 := dk_seg dksX6_beginsCheck_2 23 rfl rfl
theorem dksX6_beginsCheck_4 : cX6_beginsCheck.data.toList.drop 92 = dktX6_beginsCheck_4 := dk_seg dksX6_beginsCheck_3 23 rfl rfl
theorem dksX6_beginsCheck_5 : cX6_beginsCheck.data.toList.drop 114 = dktX6_beginsCheck_5 := dk_seg dksX6_beginsCheck_4 22 rfl rfl
theorem dX6_beginsCheck_0 : decode cX6_beginsCheck 0 = .ok (.aload_n 0, 1) := dk_42 (dk_at dksX6_beginsCheck_0 0 rfl rfl)
theorem dX6_beginsCheck_1 : decode cX6_beginsCheck 1 = .ok (.getfield 122, 3) := dk_180 0 122 (dk_at dksX6_beginsCheck_0 1 rfl rfl)
theorem dX6_beginsCheck_4 : decode cX6_beginsCheck 4 = .ok (.bipush 24, 2) := dk_16 24 (dk_at dksX6_beginsCheck_0 4 rfl rfl)
theorem dX6_beginsCheck_6 : decode cX6_beginsCheck 6 = .ok (.if_icmp .ge 10, 3) := dk_162 0 10 (dk_at dksX6_beginsCheck_0 6 rfl rfl)
theorem dX6_beginsCheck_9 : decode cX6_beginsCheck 9 = .ok (.aload_n 0, 1) := dk_42 (dk_at dksX6_beginsCheck_0 9 rfl rfl)
theorem dX6_beginsCheck_10 : decode cX6_beginsCheck 10 = .ok (.getfield 122, 3) := dk_180 0 122 (dk_at dksX6_beginsCheck_0 10 rfl rfl)
theorem dX6_beginsCheck_13 : decode cX6_beginsCheck 13 = .ok (.goto 5, 3) := dk_167 0 5 (dk_at dksX6_beginsCheck_0 13 rfl rfl)
theorem dX6_beginsCheck_16 : decode cX6_beginsCheck 16 = .ok (.bipush 24, 2) := dk_16 24 (dk_at dksX6_beginsCheck_0 16 rfl rfl)
theorem dX6_beginsCheck_18 : decode cX6_beginsCheck 18 = .ok (.istore_n 2, 1) := dk_61 (dk_at dksX6_beginsCheck_0 18 rfl rfl)
theorem dX6_beginsCheck_19 : decode cX6_beginsCheck 19 = .ok (.aload_n 0, 1) := dk_42 (dk_at dksX6_beginsCheck_0 19 rfl rfl)
theorem dX6_beginsCheck_20 : decode cX6_beginsCheck 20 = .ok (.getfield 122, 3) := dk_180 0 122 (dk_at dksX6_beginsCheck_0 20 rfl rfl)
theorem dX6_beginsCheck_23 : decode cX6_beginsCheck 23 = .ok (.bipush 24, 2) := dk_16 24 (dk_at dksX6_beginsCheck_1 0 rfl rfl)
theorem dX6_beginsCheck_25 : decode cX6_beginsCheck 25 = .ok (.if_icmp .ge 24, 3) := dk_162 0 24 (dk_at dksX6_beginsCheck_1 2 rfl rfl)
theorem dX6_beginsCheck_28 : decode cX6_beginsCheck 28 = .ok (.iload_n 1, 1) := dk_27 (dk_at dksX6_beginsCheck_1 5 rfl rfl)
theorem dX6_beginsCheck_29 : decode cX6_beginsCheck 29 = .ok (.bipush 94, 2) := dk_16 94 (dk_at dksX6_beginsCheck_1 6 rfl rfl)
theorem dX6_beginsCheck_31 : decode cX6_beginsCheck 31 = .ok (.if_icmp .ne 26, 3) := dk_160 0 26 (dk_at dksX6_beginsCheck_1 8 rfl rfl)
theorem dX6_beginsCheck_34 : decode cX6_beginsCheck 34 = .ok (.aload_n 0, 1) := dk_42 (dk_at dksX6_beginsCheck_1 11 rfl rfl)
theorem dX6_beginsCheck_35 : decode cX6_beginsCheck 35 = .ok (.invokevirtual 317, 3) := dk_182 1 61 (dk_at dksX6_beginsCheck_1 12 rfl rfl)
theorem dX6_beginsCheck_38 : decode cX6_beginsCheck 38 = .ok (.ifCond .eq 11, 3) := dk_153 0 11 (dk_at dksX6_beginsCheck_1 15 rfl rfl)
theorem dX6_beginsCheck_41 : decode cX6_beginsCheck 41 = .ok (.aload_n 0, 1) := dk_42 (dk_at dksX6_beginsCheck_1 18 rfl rfl)
theorem dX6_beginsCheck_42 : decode cX6_beginsCheck 42 = .ok (.getfield 320, 3) := dk_180 1 64 (dk_at dksX6_beginsCheck_1 19 rfl rfl)
theorem dX6_beginsCheck_45 : decode cX6_beginsCheck 45 = .ok (.iconst 3, 1) := dk_6 (dk_at dksX6_beginsCheck_1 22 rfl rfl)
theorem dX6_beginsCheck_46 : decode cX6_beginsCheck 46 = .ok (.if_icmp .ne 11, 3) := dk_160 0 11 (dk_at dksX6_beginsCheck_2 0 rfl rfl)
theorem dX6_beginsCheck_49 : decode cX6_beginsCheck 49 = .ok (.aload_n 0, 1) := dk_42 (dk_at dksX6_beginsCheck_2 3 rfl rfl)
theorem dX6_beginsCheck_50 : decode cX6_beginsCheck 50 = .ok (.aload_n 0, 1) := dk_42 (dk_at dksX6_beginsCheck_2 4 rfl rfl)
theorem dX6_beginsCheck_51 : decode cX6_beginsCheck 51 = .ok (.getfield 256, 3) := dk_180 1 0 (dk_at dksX6_beginsCheck_2 5 rfl rfl)
theorem dX6_beginsCheck_54 : decode cX6_beginsCheck 54 = .ok (.invokevirtual 269, 3) := dk_182 1 13 (dk_at dksX6_beginsCheck_2 8 rfl rfl)
theorem dX6_beginsCheck_57 : decode cX6_beginsCheck 57 = .ok (.aload_n 0, 1) := dk_42 (dk_at dksX6_beginsCheck_2 11 rfl rfl)
theorem dX6_beginsCheck_58 : decode cX6_beginsCheck 58 = .ok (.dup, 1) := dk_89 (dk_at dksX6_beginsCheck_2 12 rfl rfl)
theorem dX6_beginsCheck_59 : decode cX6_beginsCheck 59 = .ok (.getfield 320, 3) := dk_180 1 64 (dk_at dksX6_beginsCheck_2 13 rfl rfl)
theorem dX6_beginsCheck_62 : decode cX6_beginsCheck 62 = .ok (.iload_n 1, 1) := dk_27 (dk_at dksX6_beginsCheck_2 16 rfl rfl)
theorem dX6_beginsCheck_63 : decode cX6_beginsCheck 63 = .ok (.bipush 94, 2) := dk_16 94 (dk_at dksX6_beginsCheck_2 17 rfl rfl)
theorem dX6_beginsCheck_65 : decode cX6_beginsCheck 65 = .ok (.if_icmp .ne 7, 3) := dk_160 0 7 (dk_at dksX6_beginsCheck_2 19 rfl rfl)
theorem dX6_beginsCheck_68 : decode cX6_beginsCheck 68 = .ok (.iconst 1, 1) := dk_4 (dk_at dksX6_beginsCheck_2 22 rfl rfl)
theorem dX6_beginsCheck_69 : decode cX6_beginsCheck 69 = .ok (.goto 4, 3) := dk_167 0 4 (dk_at dksX6_beginsCheck_3 0 rfl rfl)
theorem dX6_beginsCheck_72 : decode cX6_beginsCheck 72 = .ok (.iconst 0, 1) := dk_3 (dk_at dksX6_beginsCheck_3 3 rfl rfl)
theorem dX6_beginsCheck_73 : decode cX6_beginsCheck 73 = .ok (.iadd, 1) := dk_96 (dk_at dksX6_beginsCheck_3 4 rfl rfl)
theorem dX6_beginsCheck_74 : decode cX6_beginsCheck 74 = .ok (.putfield 320, 3) := dk_181 1 64 (dk_at dksX6_beginsCheck_3 5 rfl rfl)
theorem dX6_beginsCheck_77 : decode cX6_beginsCheck 77 = .ok (.aload_n 0, 1) := dk_42 (dk_at dksX6_beginsCheck_3 8 rfl rfl)
theorem dX6_beginsCheck_78 : decode cX6_beginsCheck 78 = .ok (.getfield 28, 3) := dk_180 0 28 (dk_at dksX6_beginsCheck_3 9 rfl rfl)
theorem dX6_beginsCheck_81 : decode cX6_beginsCheck 81 = .ok (.iload_n 2, 1) := dk_28 (dk_at dksX6_beginsCheck_3 12 rfl rfl)
theorem dX6_beginsCheck_82 : decode cX6_beginsCheck 82 = .ok (.iload_n 1, 1) := dk_27 (dk_at dksX6_beginsCheck_3 13 rfl rfl)
theorem dX6_beginsCheck_83 : decode cX6_beginsCheck 83 = .ok (.iastore, 1) := dk_79 (dk_at dksX6_beginsCheck_3 14 rfl rfl)
theorem dX6_beginsCheck_84 : decode cX6_beginsCheck 84 = .ok (.aload_n 0, 1) := dk_42 (dk_at dksX6_beginsCheck_3 15 rfl rfl)
theorem dX6_beginsCheck_85 : decode cX6_beginsCheck 85 = .ok (.getfield 31, 3) := dk_180 0 31 (dk_at dksX6_beginsCheck_3 16 rfl rfl)
theorem dX6_beginsCheck_88 : decode cX6_beginsCheck 88 = .ok (.iload_n 2, 1) := dk_28 (dk_at dksX6_beginsCheck_3 19 rfl rfl)
theorem dX6_beginsCheck_89 : decode cX6_beginsCheck 89 = .ok (.iconst 0, 1) := dk_3 (dk_at dksX6_beginsCheck_3 20 rfl rfl)
theorem dX6_beginsCheck_90 : decode cX6_beginsCheck 90 = .ok (.iastore, 1) := dk_79 (dk_at dksX6_beginsCheck_3 21 rfl rfl)
theorem dX6_beginsCheck_91 : decode cX6_beginsCheck 91 = .ok (.aload_n 0, 1) := dk_42 (dk_at dksX6_beginsCheck_3 22 rfl rfl)
theorem dX6_beginsCheck_92 : decode cX6_beginsCheck 92 = .ok (.getfield 34, 3) := dk_180 0 34 (dk_at dksX6_beginsCheck_4 0 rfl rfl)
theorem dX6_beginsCheck_95 : decode cX6_beginsCheck 95 = .ok (.iload_n 2, 1) := dk_28 (dk_at dksX6_beginsCheck_4 3 rfl rfl)
theorem dX6_beginsCheck_96 : decode cX6_beginsCheck 96 = .ok (.iconst 0, 1) := dk_3 (dk_at dksX6_beginsCheck_4 4 rfl rfl)
theorem dX6_beginsCheck_97 : decode cX6_beginsCheck 97 = .ok (.iastore, 1) := dk_79 (dk_at dksX6_beginsCheck_4 5 rfl rfl)
theorem dX6_beginsCheck_98 : decode cX6_beginsCheck 98 = .ok (.aload_n 0, 1) := dk_42 (dk_at dksX6_beginsCheck_4 6 rfl rfl)
theorem dX6_beginsCheck_99 : decode cX6_beginsCheck 99 = .ok (.getfield 37, 3) := dk_180 0 37 (dk_at dksX6_beginsCheck_4 7 rfl rfl)
theorem dX6_beginsCheck_102 : decode cX6_beginsCheck 102 = .ok (.iload_n 2, 1) := dk_28 (dk_at dksX6_beginsCheck_4 10 rfl rfl)
theorem dX6_beginsCheck_103 : decode cX6_beginsCheck 103 = .ok (.iconst 0, 1) := dk_3 (dk_at dksX6_beginsCheck_4 11 rfl rfl)
theorem dX6_beginsCheck_104 : decode cX6_beginsCheck 104 = .ok (.iastore, 1) := dk_79 (dk_at dksX6_beginsCheck_4 12 rfl rfl)
theorem dX6_beginsCheck_105 : decode cX6_beginsCheck 105 = .ok (.aload_n 0, 1) := dk_42 (dk_at dksX6_beginsCheck_4 13 rfl rfl)
theorem dX6_beginsCheck_106 : decode cX6_beginsCheck 106 = .ok (.getfield 40, 3) := dk_180 0 40 (dk_at dksX6_beginsCheck_4 14 rfl rfl)
theorem dX6_beginsCheck_109 : decode cX6_beginsCheck 109 = .ok (.iload_n 2, 1) := dk_28 (dk_at dksX6_beginsCheck_4 17 rfl rfl)
theorem dX6_beginsCheck_110 : decode cX6_beginsCheck 110 = .ok (.iconst 0, 1) := dk_3 (dk_at dksX6_beginsCheck_4 18 rfl rfl)
theorem dX6_beginsCheck_111 : decode cX6_beginsCheck 111 = .ok (.iastore, 1) := dk_79 (dk_at dksX6_beginsCheck_4 19 rfl rfl)
theorem dX6_beginsCheck_112 : decode cX6_beginsCheck 112 = .ok (.aload_n 0, 1) := dk_42 (dk_at dksX6_beginsCheck_4 20 rfl rfl)
theorem dX6_beginsCheck_113 : decode cX6_beginsCheck 113 = .ok (.dup, 1) := dk_89 (dk_at dksX6_beginsCheck_4 21 rfl rfl)
theorem dX6_beginsCheck_114 : decode cX6_beginsCheck 114 = .ok (.getfield 122, 3) := dk_180 0 122 (dk_at dksX6_beginsCheck_5 0 rfl rfl)
theorem dX6_beginsCheck_117 : decode cX6_beginsCheck 117 = .ok (.iconst 1, 1) := dk_4 (dk_at dksX6_beginsCheck_5 3 rfl rfl)
theorem dX6_beginsCheck_118 : decode cX6_beginsCheck 118 = .ok (.iadd, 1) := dk_96 (dk_at dksX6_beginsCheck_5 4 rfl rfl)
theorem dX6_beginsCheck_119 : decode cX6_beginsCheck 119 = .ok (.putfield 122, 3) := dk_181 0 122 (dk_at dksX6_beginsCheck_5 5 rfl rfl)
theorem dX6_beginsCheck_122 : decode cX6_beginsCheck 122 = .ok (.aload_n 0, 1) := dk_42 (dk_at dksX6_beginsCheck_5 8 rfl rfl)
theorem dX6_beginsCheck_123 : decode cX6_beginsCheck 123 = .ok (.dup, 1) := dk_89 (dk_at dksX6_beginsCheck_5 9 rfl rfl)
theorem dX6_beginsCheck_124 : decode cX6_beginsCheck 124 = .ok (.getfield 256, 3) := dk_180 1 0 (dk_at dksX6_beginsCheck_5 10 rfl rfl)
theorem dX6_beginsCheck_127 : decode cX6_beginsCheck 127 = .ok (.iconst 1, 1) := dk_4 (dk_at dksX6_beginsCheck_5 13 rfl rfl)
theorem dX6_beginsCheck_128 : decode cX6_beginsCheck 128 = .ok (.iadd, 1) := dk_96 (dk_at dksX6_beginsCheck_5 14 rfl rfl)
theorem dX6_beginsCheck_129 : decode cX6_beginsCheck 129 = .ok (.putfield 256, 3) := dk_181 1 0 (dk_at dksX6_beginsCheck_5 15 rfl rfl)
theorem dX6_beginsCheck_132 : decode cX6_beginsCheck 132 = .ok (.iload_n 2, 1) := dk_28 (dk_at dksX6_beginsCheck_5 18 rfl rfl)
theorem dX6_beginsCheck_133 : decode cX6_beginsCheck 133 = .ok (.ireturn, 1) := dk_172 (dk_at dksX6_beginsCheck_5 19 rfl rfl)
abbrev cX6_readsBounds : ByteArray := prog_25_method_58_code
def yX6_readsBounds : MethodName := ⟨RX6, "readsBounds", "(II)Z"⟩
def dkwX6_readsBounds_4 : List UInt8 := [180, 0, 34, 27, 46, 164, 0, 8, 42, 29, 182, 1, 13, 4, 172]
abbrev dktX6_readsBounds_4 : List UInt8 := dkwX6_readsBounds_4 ++ []
def dkwX6_readsBounds_3 : List UInt8 := [167, 0, 11, 42, 180, 0, 34, 27, 21, 4, 79, 132, 5, 1, 167, 255, 186, 42, 180, 0, 31, 27, 46, 42]
abbrev dktX6_readsBounds_3 : List UInt8 := dkwX6_readsBounds_3 ++ dktX6_readsBounds_4
def dkwX6_readsBounds_2 : List UInt8 := [16, 10, 21, 4, 104, 21, 6, 96, 54, 4, 21, 5, 28, 162, 0, 14, 42, 180, 0, 31, 27, 21, 4, 79]
abbrev dktX6_readsBounds_2 : List UInt8 := dkwX6_readsBounds_2 ++ dktX6_readsBounds_3
def dkwX6_readsBounds_1 : List UInt8 := [182, 1, 22, 54, 6, 21, 6, 156, 0, 5, 3, 172, 21, 5, 28, 160, 0, 8, 21, 6, 167, 0, 11]
abbrev dktX6_readsBounds_1 : List UInt8 := dkwX6_readsBounds_1 ++ dktX6_readsBounds_2
def dkwX6_readsBounds_0 : List UInt8 := [42, 180, 1, 0, 4, 100, 62, 3, 54, 4, 3, 54, 5, 21, 5, 5, 28, 104, 162, 0, 68, 42]
abbrev dktX6_readsBounds_0 : List UInt8 := dkwX6_readsBounds_0 ++ dktX6_readsBounds_1
theorem dksX6_readsBounds_0 : cX6_readsBounds.data.toList.drop 0 = dktX6_readsBounds_0 := by decide +kernel
theorem dksX6_readsBounds_1 : cX6_readsBounds.data.toList.drop 22 = dktX6_readsBounds_1 := dk_seg dksX6_readsBounds_0 22 rfl rfl
theorem dksX6_readsBounds_2 : cX6_readsBounds.data.toList.drop 45 = dktX6_readsBounds_2 := dk_seg dksX6_readsBounds_1 23 rfl rfl
theorem dksX6_readsBounds_3 : cX6_readsBounds.data.toList.drop 69 = dktX6_readsBounds_3 := dk_seg dksX6_readsBounds_2 24 rfl rfl
theorem dksX6_readsBounds_4 : cX6_readsBounds.data.toList.drop 93 = dktX6_readsBounds_4 := dk_seg dksX6_readsBounds_3 24 rfl rfl
theorem dX6_readsBounds_0 : decode cX6_readsBounds 0 = .ok (.aload_n 0, 1) := dk_42 (dk_at dksX6_readsBounds_0 0 rfl rfl)
theorem dX6_readsBounds_1 : decode cX6_readsBounds 1 = .ok (.getfield 256, 3) := dk_180 1 0 (dk_at dksX6_readsBounds_0 1 rfl rfl)
theorem dX6_readsBounds_4 : decode cX6_readsBounds 4 = .ok (.iconst 1, 1) := dk_4 (dk_at dksX6_readsBounds_0 4 rfl rfl)
theorem dX6_readsBounds_5 : decode cX6_readsBounds 5 = .ok (.isub, 1) := dk_100 (dk_at dksX6_readsBounds_0 5 rfl rfl)
theorem dX6_readsBounds_6 : decode cX6_readsBounds 6 = .ok (.istore_n 3, 1) := dk_62 (dk_at dksX6_readsBounds_0 6 rfl rfl)
theorem dX6_readsBounds_7 : decode cX6_readsBounds 7 = .ok (.iconst 0, 1) := dk_3 (dk_at dksX6_readsBounds_0 7 rfl rfl)
theorem dX6_readsBounds_8 : decode cX6_readsBounds 8 = .ok (.istore 4, 2) := dk_54 4 (dk_at dksX6_readsBounds_0 8 rfl rfl)
theorem dX6_readsBounds_10 : decode cX6_readsBounds 10 = .ok (.iconst 0, 1) := dk_3 (dk_at dksX6_readsBounds_0 10 rfl rfl)
theorem dX6_readsBounds_11 : decode cX6_readsBounds 11 = .ok (.istore 5, 2) := dk_54 5 (dk_at dksX6_readsBounds_0 11 rfl rfl)
theorem dX6_readsBounds_13 : decode cX6_readsBounds 13 = .ok (.iload 5, 2) := dk_21 5 (dk_at dksX6_readsBounds_0 13 rfl rfl)
theorem dX6_readsBounds_15 : decode cX6_readsBounds 15 = .ok (.iconst 2, 1) := dk_5 (dk_at dksX6_readsBounds_0 15 rfl rfl)
theorem dX6_readsBounds_16 : decode cX6_readsBounds 16 = .ok (.iload_n 2, 1) := dk_28 (dk_at dksX6_readsBounds_0 16 rfl rfl)
theorem dX6_readsBounds_17 : decode cX6_readsBounds 17 = .ok (.imul, 1) := dk_104 (dk_at dksX6_readsBounds_0 17 rfl rfl)
theorem dX6_readsBounds_18 : decode cX6_readsBounds 18 = .ok (.if_icmp .ge 68, 3) := dk_162 0 68 (dk_at dksX6_readsBounds_0 18 rfl rfl)
theorem dX6_readsBounds_21 : decode cX6_readsBounds 21 = .ok (.aload_n 0, 1) := dk_42 (dk_at dksX6_readsBounds_0 21 rfl rfl)
theorem dX6_readsBounds_22 : decode cX6_readsBounds 22 = .ok (.invokevirtual 278, 3) := dk_182 1 22 (dk_at dksX6_readsBounds_1 0 rfl rfl)
theorem dX6_readsBounds_25 : decode cX6_readsBounds 25 = .ok (.istore 6, 2) := dk_54 6 (dk_at dksX6_readsBounds_1 3 rfl rfl)
theorem dX6_readsBounds_27 : decode cX6_readsBounds 27 = .ok (.iload 6, 2) := dk_21 6 (dk_at dksX6_readsBounds_1 5 rfl rfl)
theorem dX6_readsBounds_29 : decode cX6_readsBounds 29 = .ok (.ifCond .ge 5, 3) := dk_156 0 5 (dk_at dksX6_readsBounds_1 7 rfl rfl)
theorem dX6_readsBounds_32 : decode cX6_readsBounds 32 = .ok (.iconst 0, 1) := dk_3 (dk_at dksX6_readsBounds_1 10 rfl rfl)
theorem dX6_readsBounds_33 : decode cX6_readsBounds 33 = .ok (.ireturn, 1) := dk_172 (dk_at dksX6_readsBounds_1 11 rfl rfl)
theorem dX6_readsBounds_34 : decode cX6_readsBounds 34 = .ok (.iload 5, 2) := dk_21 5 (dk_at dksX6_readsBounds_1 12 rfl rfl)
theorem dX6_readsBounds_36 : decode cX6_readsBounds 36 = .ok (.iload_n 2, 1) := dk_28 (dk_at dksX6_readsBounds_1 14 rfl rfl)
theorem dX6_readsBounds_37 : decode cX6_readsBounds 37 = .ok (.if_icmp .ne 8, 3) := dk_160 0 8 (dk_at dksX6_readsBounds_1 15 rfl rfl)
theorem dX6_readsBounds_40 : decode cX6_readsBounds 40 = .ok (.iload 6, 2) := dk_21 6 (dk_at dksX6_readsBounds_1 18 rfl rfl)
theorem dX6_readsBounds_42 : decode cX6_readsBounds 42 = .ok (.goto 11, 3) := dk_167 0 11 (dk_at dksX6_readsBounds_1 20 rfl rfl)
theorem dX6_readsBounds_45 : decode cX6_readsBounds 45 = .ok (.bipush 10, 2) := dk_16 10 (dk_at dksX6_readsBounds_2 0 rfl rfl)
theorem dX6_readsBounds_47 : decode cX6_readsBounds 47 = .ok (.iload 4, 2) := dk_21 4 (dk_at dksX6_readsBounds_2 2 rfl rfl)
theorem dX6_readsBounds_49 : decode cX6_readsBounds 49 = .ok (.imul, 1) := dk_104 (dk_at dksX6_readsBounds_2 4 rfl rfl)
theorem dX6_readsBounds_50 : decode cX6_readsBounds 50 = .ok (.iload 6, 2) := dk_21 6 (dk_at dksX6_readsBounds_2 5 rfl rfl)
theorem dX6_readsBounds_52 : decode cX6_readsBounds 52 = .ok (.iadd, 1) := dk_96 (dk_at dksX6_readsBounds_2 7 rfl rfl)
theorem dX6_readsBounds_53 : decode cX6_readsBounds 53 = .ok (.istore 4, 2) := dk_54 4 (dk_at dksX6_readsBounds_2 8 rfl rfl)
theorem dX6_readsBounds_55 : decode cX6_readsBounds 55 = .ok (.iload 5, 2) := dk_21 5 (dk_at dksX6_readsBounds_2 10 rfl rfl)
theorem dX6_readsBounds_57 : decode cX6_readsBounds 57 = .ok (.iload_n 2, 1) := dk_28 (dk_at dksX6_readsBounds_2 12 rfl rfl)
theorem dX6_readsBounds_58 : decode cX6_readsBounds 58 = .ok (.if_icmp .ge 14, 3) := dk_162 0 14 (dk_at dksX6_readsBounds_2 13 rfl rfl)
theorem dX6_readsBounds_61 : decode cX6_readsBounds 61 = .ok (.aload_n 0, 1) := dk_42 (dk_at dksX6_readsBounds_2 16 rfl rfl)
theorem dX6_readsBounds_62 : decode cX6_readsBounds 62 = .ok (.getfield 31, 3) := dk_180 0 31 (dk_at dksX6_readsBounds_2 17 rfl rfl)
theorem dX6_readsBounds_65 : decode cX6_readsBounds 65 = .ok (.iload_n 1, 1) := dk_27 (dk_at dksX6_readsBounds_2 20 rfl rfl)
theorem dX6_readsBounds_66 : decode cX6_readsBounds 66 = .ok (.iload 4, 2) := dk_21 4 (dk_at dksX6_readsBounds_2 21 rfl rfl)
theorem dX6_readsBounds_68 : decode cX6_readsBounds 68 = .ok (.iastore, 1) := dk_79 (dk_at dksX6_readsBounds_2 23 rfl rfl)
theorem dX6_readsBounds_69 : decode cX6_readsBounds 69 = .ok (.goto 11, 3) := dk_167 0 11 (dk_at dksX6_readsBounds_3 0 rfl rfl)
theorem dX6_readsBounds_72 : decode cX6_readsBounds 72 = .ok (.aload_n 0, 1) := dk_42 (dk_at dksX6_readsBounds_3 3 rfl rfl)
theorem dX6_readsBounds_73 : decode cX6_readsBounds 73 = .ok (.getfield 34, 3) := dk_180 0 34 (dk_at dksX6_readsBounds_3 4 rfl rfl)
theorem dX6_readsBounds_76 : decode cX6_readsBounds 76 = .ok (.iload_n 1, 1) := dk_27 (dk_at dksX6_readsBounds_3 7 rfl rfl)
theorem dX6_readsBounds_77 : decode cX6_readsBounds 77 = .ok (.iload 4, 2) := dk_21 4 (dk_at dksX6_readsBounds_3 8 rfl rfl)
theorem dX6_readsBounds_79 : decode cX6_readsBounds 79 = .ok (.iastore, 1) := dk_79 (dk_at dksX6_readsBounds_3 10 rfl rfl)
theorem dX6_readsBounds_80 : decode cX6_readsBounds 80 = .ok (.iinc 5 1, 3) := dk_132 5 1 (dk_at dksX6_readsBounds_3 11 rfl rfl)
theorem dX6_readsBounds_83 : decode cX6_readsBounds 83 = .ok (.goto (-70), 3) := dk_167 255 186 (dk_at dksX6_readsBounds_3 14 rfl rfl)
theorem dX6_readsBounds_86 : decode cX6_readsBounds 86 = .ok (.aload_n 0, 1) := dk_42 (dk_at dksX6_readsBounds_3 17 rfl rfl)
theorem dX6_readsBounds_87 : decode cX6_readsBounds 87 = .ok (.getfield 31, 3) := dk_180 0 31 (dk_at dksX6_readsBounds_3 18 rfl rfl)
theorem dX6_readsBounds_90 : decode cX6_readsBounds 90 = .ok (.iload_n 1, 1) := dk_27 (dk_at dksX6_readsBounds_3 21 rfl rfl)
theorem dX6_readsBounds_91 : decode cX6_readsBounds 91 = .ok (.iaload, 1) := dk_46 (dk_at dksX6_readsBounds_3 22 rfl rfl)
theorem dX6_readsBounds_92 : decode cX6_readsBounds 92 = .ok (.aload_n 0, 1) := dk_42 (dk_at dksX6_readsBounds_3 23 rfl rfl)
theorem dX6_readsBounds_93 : decode cX6_readsBounds 93 = .ok (.getfield 34, 3) := dk_180 0 34 (dk_at dksX6_readsBounds_4 0 rfl rfl)
theorem dX6_readsBounds_96 : decode cX6_readsBounds 96 = .ok (.iload_n 1, 1) := dk_27 (dk_at dksX6_readsBounds_4 3 rfl rfl)
theorem dX6_readsBounds_97 : decode cX6_readsBounds 97 = .ok (.iaload, 1) := dk_46 (dk_at dksX6_readsBounds_4 4 rfl rfl)
theorem dX6_readsBounds_98 : decode cX6_readsBounds 98 = .ok (.if_icmp .le 8, 3) := dk_164 0 8 (dk_at dksX6_readsBounds_4 5 rfl rfl)
theorem dX6_readsBounds_101 : decode cX6_readsBounds 101 = .ok (.aload_n 0, 1) := dk_42 (dk_at dksX6_readsBounds_4 8 rfl rfl)
theorem dX6_readsBounds_102 : decode cX6_readsBounds 102 = .ok (.iload_n 3, 1) := dk_29 (dk_at dksX6_readsBounds_4 9 rfl rfl)
theorem dX6_readsBounds_103 : decode cX6_readsBounds 103 = .ok (.invokevirtual 269, 3) := dk_182 1 13 (dk_at dksX6_readsBounds_4 10 rfl rfl)
theorem dX6_readsBounds_106 : decode cX6_readsBounds 106 = .ok (.iconst 1, 1) := dk_4 (dk_at dksX6_readsBounds_4 13 rfl rfl)
theorem dX6_readsBounds_107 : decode cX6_readsBounds 107 = .ok (.ireturn, 1) := dk_172 (dk_at dksX6_readsBounds_4 14 rfl rfl)
abbrev cX6_endsCheck : ByteArray := prog_25_method_59_code
def yX6_endsCheck : MethodName := ⟨RX6, "endsCheck", "(I)V"⟩
def dkwX6_endsCheck_6 : List UInt8 := [180, 1, 10, 158, 0, 7, 4, 167, 0, 4, 3, 62, 167, 255, 119, 177]
abbrev dktX6_endsCheck_6 : List UInt8 := dkwX6_endsCheck_6 ++ []
def dkwX6_endsCheck_5 : List UInt8 := [21, 4, 46, 4, 160, 0, 4, 177, 42, 89, 180, 1, 10, 4, 100, 181, 1, 10, 21, 5, 61, 42]
abbrev dktX6_endsCheck_5 : List UInt8 := dkwX6_endsCheck_5 ++ dktX6_endsCheck_6
def dkwX6_endsCheck_4 : List UInt8 := [21, 4, 92, 46, 4, 96, 79, 42, 180, 0, 100, 21, 4, 46, 16, 47, 160, 0, 15, 42, 180, 0, 106]
abbrev dktX6_endsCheck_4 : List UInt8 := dkwX6_endsCheck_4 ++ dktX6_endsCheck_5
def dkwX6_endsCheck_3 : List UInt8 := [42, 180, 0, 37, 21, 5, 28, 79, 167, 0, 11, 42, 180, 0, 40, 21, 5, 28, 79, 42, 180, 0, 106]
abbrev dktX6_endsCheck_3 : List UInt8 := dkwX6_endsCheck_3 ++ dktX6_endsCheck_4
def dkwX6_endsCheck_2 : List UInt8 := [42, 180, 0, 52, 42, 180, 0, 106, 21, 4, 46, 28, 79, 177, 42, 180, 0, 106, 21, 4, 46, 154, 0, 14]
abbrev dktX6_endsCheck_2 : List UInt8 := dkwX6_endsCheck_2 ++ dktX6_endsCheck_3
def dkwX6_endsCheck_1 : List UInt8 := [100, 54, 4, 42, 180, 0, 97, 21, 4, 46, 54, 5, 42, 180, 0, 100, 21, 4, 46, 16, 123, 160, 0, 17]
abbrev dktX6_endsCheck_1 : List UInt8 := dkwX6_endsCheck_1 ++ dktX6_endsCheck_2
def dkwX6_endsCheck_0 : List UInt8 := [27, 61, 42, 180, 1, 10, 158, 0, 7, 4, 167, 0, 4, 3, 62, 29, 153, 0, 139, 42, 180, 1, 10, 4]
abbrev dktX6_endsCheck_0 : List UInt8 := dkwX6_endsCheck_0 ++ dktX6_endsCheck_1
theorem dksX6_endsCheck_0 : cX6_endsCheck.data.toList.drop 0 = dktX6_endsCheck_0 := by decide +kernel
theorem dksX6_endsCheck_1 : cX6_endsCheck.data.toList.drop 24 = dktX6_endsCheck_1 := dk_seg dksX6_endsCheck_0 24 rfl rfl
theorem dksX6_endsCheck_2 : cX6_endsCheck.data.toList.drop 48 = dktX6_endsCheck_2 := dk_seg dksX6_endsCheck_1 24 rfl rfl
theorem dksX6_endsCheck_3 : cX6_endsCheck.data.toList.drop 72 = dktX6_endsCheck_3 := dk_seg dksX6_endsCheck_2 24 rfl rfl
theorem dksX6_endsCheck_4 : cX6_endsCheck.data.toList.drop 95 = dktX6_endsCheck_4 := dk_seg dksX6_endsCheck_3 23 rfl rfl
theorem dksX6_endsCheck_5 : cX6_endsCheck.data.toList.drop 118 = dktX6_endsCheck_5 := dk_seg dksX6_endsCheck_4 23 rfl rfl
theorem dksX6_endsCheck_6 : cX6_endsCheck.data.toList.drop 140 = dktX6_endsCheck_6 := dk_seg dksX6_endsCheck_5 22 rfl rfl
theorem dX6_endsCheck_0 : decode cX6_endsCheck 0 = .ok (.iload_n 1, 1) := dk_27 (dk_at dksX6_endsCheck_0 0 rfl rfl)
theorem dX6_endsCheck_1 : decode cX6_endsCheck 1 = .ok (.istore_n 2, 1) := dk_61 (dk_at dksX6_endsCheck_0 1 rfl rfl)
theorem dX6_endsCheck_2 : decode cX6_endsCheck 2 = .ok (.aload_n 0, 1) := dk_42 (dk_at dksX6_endsCheck_0 2 rfl rfl)
theorem dX6_endsCheck_3 : decode cX6_endsCheck 3 = .ok (.getfield 266, 3) := dk_180 1 10 (dk_at dksX6_endsCheck_0 3 rfl rfl)
theorem dX6_endsCheck_6 : decode cX6_endsCheck 6 = .ok (.ifCond .le 7, 3) := dk_158 0 7 (dk_at dksX6_endsCheck_0 6 rfl rfl)
theorem dX6_endsCheck_9 : decode cX6_endsCheck 9 = .ok (.iconst 1, 1) := dk_4 (dk_at dksX6_endsCheck_0 9 rfl rfl)
theorem dX6_endsCheck_10 : decode cX6_endsCheck 10 = .ok (.goto 4, 3) := dk_167 0 4 (dk_at dksX6_endsCheck_0 10 rfl rfl)
theorem dX6_endsCheck_13 : decode cX6_endsCheck 13 = .ok (.iconst 0, 1) := dk_3 (dk_at dksX6_endsCheck_0 13 rfl rfl)
theorem dX6_endsCheck_14 : decode cX6_endsCheck 14 = .ok (.istore_n 3, 1) := dk_62 (dk_at dksX6_endsCheck_0 14 rfl rfl)
theorem dX6_endsCheck_15 : decode cX6_endsCheck 15 = .ok (.iload_n 3, 1) := dk_29 (dk_at dksX6_endsCheck_0 15 rfl rfl)
theorem dX6_endsCheck_16 : decode cX6_endsCheck 16 = .ok (.ifCond .eq 139, 3) := dk_153 0 139 (dk_at dksX6_endsCheck_0 16 rfl rfl)
theorem dX6_endsCheck_19 : decode cX6_endsCheck 19 = .ok (.aload_n 0, 1) := dk_42 (dk_at dksX6_endsCheck_0 19 rfl rfl)
theorem dX6_endsCheck_20 : decode cX6_endsCheck 20 = .ok (.getfield 266, 3) := dk_180 1 10 (dk_at dksX6_endsCheck_0 20 rfl rfl)
theorem dX6_endsCheck_23 : decode cX6_endsCheck 23 = .ok (.iconst 1, 1) := dk_4 (dk_at dksX6_endsCheck_0 23 rfl rfl)
theorem dX6_endsCheck_24 : decode cX6_endsCheck 24 = .ok (.isub, 1) := dk_100 (dk_at dksX6_endsCheck_1 0 rfl rfl)
theorem dX6_endsCheck_25 : decode cX6_endsCheck 25 = .ok (.istore 4, 2) := dk_54 4 (dk_at dksX6_endsCheck_1 1 rfl rfl)
theorem dX6_endsCheck_27 : decode cX6_endsCheck 27 = .ok (.aload_n 0, 1) := dk_42 (dk_at dksX6_endsCheck_1 3 rfl rfl)
theorem dX6_endsCheck_28 : decode cX6_endsCheck 28 = .ok (.getfield 97, 3) := dk_180 0 97 (dk_at dksX6_endsCheck_1 4 rfl rfl)
theorem dX6_endsCheck_31 : decode cX6_endsCheck 31 = .ok (.iload 4, 2) := dk_21 4 (dk_at dksX6_endsCheck_1 7 rfl rfl)
theorem dX6_endsCheck_33 : decode cX6_endsCheck 33 = .ok (.iaload, 1) := dk_46 (dk_at dksX6_endsCheck_1 9 rfl rfl)
theorem dX6_endsCheck_34 : decode cX6_endsCheck 34 = .ok (.istore 5, 2) := dk_54 5 (dk_at dksX6_endsCheck_1 10 rfl rfl)
theorem dX6_endsCheck_36 : decode cX6_endsCheck 36 = .ok (.aload_n 0, 1) := dk_42 (dk_at dksX6_endsCheck_1 12 rfl rfl)
theorem dX6_endsCheck_37 : decode cX6_endsCheck 37 = .ok (.getfield 100, 3) := dk_180 0 100 (dk_at dksX6_endsCheck_1 13 rfl rfl)
theorem dX6_endsCheck_40 : decode cX6_endsCheck 40 = .ok (.iload 4, 2) := dk_21 4 (dk_at dksX6_endsCheck_1 16 rfl rfl)
theorem dX6_endsCheck_42 : decode cX6_endsCheck 42 = .ok (.iaload, 1) := dk_46 (dk_at dksX6_endsCheck_1 18 rfl rfl)
theorem dX6_endsCheck_43 : decode cX6_endsCheck 43 = .ok (.bipush 123, 2) := dk_16 123 (dk_at dksX6_endsCheck_1 19 rfl rfl)
theorem dX6_endsCheck_45 : decode cX6_endsCheck 45 = .ok (.if_icmp .ne 17, 3) := dk_160 0 17 (dk_at dksX6_endsCheck_1 21 rfl rfl)
theorem dX6_endsCheck_48 : decode cX6_endsCheck 48 = .ok (.aload_n 0, 1) := dk_42 (dk_at dksX6_endsCheck_2 0 rfl rfl)
theorem dX6_endsCheck_49 : decode cX6_endsCheck 49 = .ok (.getfield 52, 3) := dk_180 0 52 (dk_at dksX6_endsCheck_2 1 rfl rfl)
theorem dX6_endsCheck_52 : decode cX6_endsCheck 52 = .ok (.aload_n 0, 1) := dk_42 (dk_at dksX6_endsCheck_2 4 rfl rfl)
theorem dX6_endsCheck_53 : decode cX6_endsCheck 53 = .ok (.getfield 106, 3) := dk_180 0 106 (dk_at dksX6_endsCheck_2 5 rfl rfl)
theorem dX6_endsCheck_56 : decode cX6_endsCheck 56 = .ok (.iload 4, 2) := dk_21 4 (dk_at dksX6_endsCheck_2 8 rfl rfl)
theorem dX6_endsCheck_58 : decode cX6_endsCheck 58 = .ok (.iaload, 1) := dk_46 (dk_at dksX6_endsCheck_2 10 rfl rfl)
theorem dX6_endsCheck_59 : decode cX6_endsCheck 59 = .ok (.iload_n 2, 1) := dk_28 (dk_at dksX6_endsCheck_2 11 rfl rfl)
theorem dX6_endsCheck_60 : decode cX6_endsCheck 60 = .ok (.iastore, 1) := dk_79 (dk_at dksX6_endsCheck_2 12 rfl rfl)
theorem dX6_endsCheck_61 : decode cX6_endsCheck 61 = .ok (.return_, 1) := dk_177 (dk_at dksX6_endsCheck_2 13 rfl rfl)
theorem dX6_endsCheck_62 : decode cX6_endsCheck 62 = .ok (.aload_n 0, 1) := dk_42 (dk_at dksX6_endsCheck_2 14 rfl rfl)
theorem dX6_endsCheck_63 : decode cX6_endsCheck 63 = .ok (.getfield 106, 3) := dk_180 0 106 (dk_at dksX6_endsCheck_2 15 rfl rfl)
theorem dX6_endsCheck_66 : decode cX6_endsCheck 66 = .ok (.iload 4, 2) := dk_21 4 (dk_at dksX6_endsCheck_2 18 rfl rfl)
theorem dX6_endsCheck_68 : decode cX6_endsCheck 68 = .ok (.iaload, 1) := dk_46 (dk_at dksX6_endsCheck_2 20 rfl rfl)
theorem dX6_endsCheck_69 : decode cX6_endsCheck 69 = .ok (.ifCond .ne 14, 3) := dk_154 0 14 (dk_at dksX6_endsCheck_2 21 rfl rfl)
theorem dX6_endsCheck_72 : decode cX6_endsCheck 72 = .ok (.aload_n 0, 1) := dk_42 (dk_at dksX6_endsCheck_3 0 rfl rfl)
theorem dX6_endsCheck_73 : decode cX6_endsCheck 73 = .ok (.getfield 37, 3) := dk_180 0 37 (dk_at dksX6_endsCheck_3 1 rfl rfl)
theorem dX6_endsCheck_76 : decode cX6_endsCheck 76 = .ok (.iload 5, 2) := dk_21 5 (dk_at dksX6_endsCheck_3 4 rfl rfl)
theorem dX6_endsCheck_78 : decode cX6_endsCheck 78 = .ok (.iload_n 2, 1) := dk_28 (dk_at dksX6_endsCheck_3 6 rfl rfl)
theorem dX6_endsCheck_79 : decode cX6_endsCheck 79 = .ok (.iastore, 1) := dk_79 (dk_at dksX6_endsCheck_3 7 rfl rfl)
theorem dX6_endsCheck_80 : decode cX6_endsCheck 80 = .ok (.goto 11, 3) := dk_167 0 11 (dk_at dksX6_endsCheck_3 8 rfl rfl)
theorem dX6_endsCheck_83 : decode cX6_endsCheck 83 = .ok (.aload_n 0, 1) := dk_42 (dk_at dksX6_endsCheck_3 11 rfl rfl)
theorem dX6_endsCheck_84 : decode cX6_endsCheck 84 = .ok (.getfield 40, 3) := dk_180 0 40 (dk_at dksX6_endsCheck_3 12 rfl rfl)
theorem dX6_endsCheck_87 : decode cX6_endsCheck 87 = .ok (.iload 5, 2) := dk_21 5 (dk_at dksX6_endsCheck_3 15 rfl rfl)
theorem dX6_endsCheck_89 : decode cX6_endsCheck 89 = .ok (.iload_n 2, 1) := dk_28 (dk_at dksX6_endsCheck_3 17 rfl rfl)
theorem dX6_endsCheck_90 : decode cX6_endsCheck 90 = .ok (.iastore, 1) := dk_79 (dk_at dksX6_endsCheck_3 18 rfl rfl)
theorem dX6_endsCheck_91 : decode cX6_endsCheck 91 = .ok (.aload_n 0, 1) := dk_42 (dk_at dksX6_endsCheck_3 19 rfl rfl)
theorem dX6_endsCheck_92 : decode cX6_endsCheck 92 = .ok (.getfield 106, 3) := dk_180 0 106 (dk_at dksX6_endsCheck_3 20 rfl rfl)
theorem dX6_endsCheck_95 : decode cX6_endsCheck 95 = .ok (.iload 4, 2) := dk_21 4 (dk_at dksX6_endsCheck_4 0 rfl rfl)
theorem dX6_endsCheck_97 : decode cX6_endsCheck 97 = .ok (.dup2, 1) := dk_92 (dk_at dksX6_endsCheck_4 2 rfl rfl)
theorem dX6_endsCheck_98 : decode cX6_endsCheck 98 = .ok (.iaload, 1) := dk_46 (dk_at dksX6_endsCheck_4 3 rfl rfl)
theorem dX6_endsCheck_99 : decode cX6_endsCheck 99 = .ok (.iconst 1, 1) := dk_4 (dk_at dksX6_endsCheck_4 4 rfl rfl)
theorem dX6_endsCheck_100 : decode cX6_endsCheck 100 = .ok (.iadd, 1) := dk_96 (dk_at dksX6_endsCheck_4 5 rfl rfl)
theorem dX6_endsCheck_101 : decode cX6_endsCheck 101 = .ok (.iastore, 1) := dk_79 (dk_at dksX6_endsCheck_4 6 rfl rfl)
theorem dX6_endsCheck_102 : decode cX6_endsCheck 102 = .ok (.aload_n 0, 1) := dk_42 (dk_at dksX6_endsCheck_4 7 rfl rfl)
theorem dX6_endsCheck_103 : decode cX6_endsCheck 103 = .ok (.getfield 100, 3) := dk_180 0 100 (dk_at dksX6_endsCheck_4 8 rfl rfl)
theorem dX6_endsCheck_106 : decode cX6_endsCheck 106 = .ok (.iload 4, 2) := dk_21 4 (dk_at dksX6_endsCheck_4 11 rfl rfl)
theorem dX6_endsCheck_108 : decode cX6_endsCheck 108 = .ok (.iaload, 1) := dk_46 (dk_at dksX6_endsCheck_4 13 rfl rfl)
theorem dX6_endsCheck_109 : decode cX6_endsCheck 109 = .ok (.bipush 47, 2) := dk_16 47 (dk_at dksX6_endsCheck_4 14 rfl rfl)
theorem dX6_endsCheck_111 : decode cX6_endsCheck 111 = .ok (.if_icmp .ne 15, 3) := dk_160 0 15 (dk_at dksX6_endsCheck_4 16 rfl rfl)
theorem dX6_endsCheck_114 : decode cX6_endsCheck 114 = .ok (.aload_n 0, 1) := dk_42 (dk_at dksX6_endsCheck_4 19 rfl rfl)
theorem dX6_endsCheck_115 : decode cX6_endsCheck 115 = .ok (.getfield 106, 3) := dk_180 0 106 (dk_at dksX6_endsCheck_4 20 rfl rfl)
theorem dX6_endsCheck_118 : decode cX6_endsCheck 118 = .ok (.iload 4, 2) := dk_21 4 (dk_at dksX6_endsCheck_5 0 rfl rfl)
theorem dX6_endsCheck_120 : decode cX6_endsCheck 120 = .ok (.iaload, 1) := dk_46 (dk_at dksX6_endsCheck_5 2 rfl rfl)
theorem dX6_endsCheck_121 : decode cX6_endsCheck 121 = .ok (.iconst 1, 1) := dk_4 (dk_at dksX6_endsCheck_5 3 rfl rfl)
theorem dX6_endsCheck_122 : decode cX6_endsCheck 122 = .ok (.if_icmp .ne 4, 3) := dk_160 0 4 (dk_at dksX6_endsCheck_5 4 rfl rfl)
theorem dX6_endsCheck_125 : decode cX6_endsCheck 125 = .ok (.return_, 1) := dk_177 (dk_at dksX6_endsCheck_5 7 rfl rfl)
theorem dX6_endsCheck_126 : decode cX6_endsCheck 126 = .ok (.aload_n 0, 1) := dk_42 (dk_at dksX6_endsCheck_5 8 rfl rfl)
theorem dX6_endsCheck_127 : decode cX6_endsCheck 127 = .ok (.dup, 1) := dk_89 (dk_at dksX6_endsCheck_5 9 rfl rfl)
theorem dX6_endsCheck_128 : decode cX6_endsCheck 128 = .ok (.getfield 266, 3) := dk_180 1 10 (dk_at dksX6_endsCheck_5 10 rfl rfl)
theorem dX6_endsCheck_131 : decode cX6_endsCheck 131 = .ok (.iconst 1, 1) := dk_4 (dk_at dksX6_endsCheck_5 13 rfl rfl)
theorem dX6_endsCheck_132 : decode cX6_endsCheck 132 = .ok (.isub, 1) := dk_100 (dk_at dksX6_endsCheck_5 14 rfl rfl)
theorem dX6_endsCheck_133 : decode cX6_endsCheck 133 = .ok (.putfield 266, 3) := dk_181 1 10 (dk_at dksX6_endsCheck_5 15 rfl rfl)
theorem dX6_endsCheck_136 : decode cX6_endsCheck 136 = .ok (.iload 5, 2) := dk_21 5 (dk_at dksX6_endsCheck_5 18 rfl rfl)
theorem dX6_endsCheck_138 : decode cX6_endsCheck 138 = .ok (.istore_n 2, 1) := dk_61 (dk_at dksX6_endsCheck_5 20 rfl rfl)
theorem dX6_endsCheck_139 : decode cX6_endsCheck 139 = .ok (.aload_n 0, 1) := dk_42 (dk_at dksX6_endsCheck_5 21 rfl rfl)
theorem dX6_endsCheck_140 : decode cX6_endsCheck 140 = .ok (.getfield 266, 3) := dk_180 1 10 (dk_at dksX6_endsCheck_6 0 rfl rfl)
theorem dX6_endsCheck_143 : decode cX6_endsCheck 143 = .ok (.ifCond .le 7, 3) := dk_158 0 7 (dk_at dksX6_endsCheck_6 3 rfl rfl)
theorem dX6_endsCheck_146 : decode cX6_endsCheck 146 = .ok (.iconst 1, 1) := dk_4 (dk_at dksX6_endsCheck_6 6 rfl rfl)
theorem dX6_endsCheck_147 : decode cX6_endsCheck 147 = .ok (.goto 4, 3) := dk_167 0 4 (dk_at dksX6_endsCheck_6 7 rfl rfl)
theorem dX6_endsCheck_150 : decode cX6_endsCheck 150 = .ok (.iconst 0, 1) := dk_3 (dk_at dksX6_endsCheck_6 10 rfl rfl)
theorem dX6_endsCheck_151 : decode cX6_endsCheck 151 = .ok (.istore_n 3, 1) := dk_62 (dk_at dksX6_endsCheck_6 11 rfl rfl)
theorem dX6_endsCheck_152 : decode cX6_endsCheck 152 = .ok (.goto (-137), 3) := dk_167 255 119 (dk_at dksX6_endsCheck_6 12 rfl rfl)
theorem dX6_endsCheck_155 : decode cX6_endsCheck 155 = .ok (.return_, 1) := dk_177 (dk_at dksX6_endsCheck_6 15 rfl rfl)
abbrev cX6_readsInCheck : ByteArray := prog_25_method_64_code
def yX6_readsInCheck : MethodName := ⟨RX6, "readsInCheck", "()Z"⟩
def dkwX6_readsInCheck_3 : List UInt8 := [42, 182, 1, 85, 153, 0, 7, 4, 167, 0, 4, 3, 172]
abbrev dktX6_readsInCheck_3 : List UInt8 := dkwX6_readsInCheck_3 ++ []
def dkwX6_readsInCheck_2 : List UInt8 := [182, 1, 82, 154, 0, 28, 42, 180, 0, 103, 42, 180, 1, 10, 4, 100, 46, 3, 184, 1, 39, 154, 0, 14]
abbrev dktX6_readsInCheck_2 : List UInt8 := dkwX6_readsInCheck_2 ++ dktX6_readsInCheck_3
def dkwX6_readsInCheck_1 : List UInt8 := [182, 1, 3, 16, 60, 159, 0, 12, 42, 182, 1, 3, 16, 61, 160, 0, 8, 42, 182, 1, 79, 172, 42]
abbrev dktX6_readsInCheck_1 : List UInt8 := dkwX6_readsInCheck_1 ++ dktX6_readsInCheck_2
def dkwX6_readsInCheck_0 : List UInt8 := [42, 180, 0, 100, 42, 180, 1, 10, 4, 100, 46, 16, 123, 159, 0, 8, 42, 182, 1, 76, 172, 42]
abbrev dktX6_readsInCheck_0 : List UInt8 := dkwX6_readsInCheck_0 ++ dktX6_readsInCheck_1
theorem dksX6_readsInCheck_0 : cX6_readsInCheck.data.toList.drop 0 = dktX6_readsInCheck_0 := by decide +kernel
theorem dksX6_readsInCheck_1 : cX6_readsInCheck.data.toList.drop 22 = dktX6_readsInCheck_1 := dk_seg dksX6_readsInCheck_0 22 rfl rfl
theorem dksX6_readsInCheck_2 : cX6_readsInCheck.data.toList.drop 45 = dktX6_readsInCheck_2 := dk_seg dksX6_readsInCheck_1 23 rfl rfl
theorem dksX6_readsInCheck_3 : cX6_readsInCheck.data.toList.drop 69 = dktX6_readsInCheck_3 := dk_seg dksX6_readsInCheck_2 24 rfl rfl
theorem dX6_readsInCheck_0 : decode cX6_readsInCheck 0 = .ok (.aload_n 0, 1) := dk_42 (dk_at dksX6_readsInCheck_0 0 rfl rfl)
theorem dX6_readsInCheck_1 : decode cX6_readsInCheck 1 = .ok (.getfield 100, 3) := dk_180 0 100 (dk_at dksX6_readsInCheck_0 1 rfl rfl)
theorem dX6_readsInCheck_4 : decode cX6_readsInCheck 4 = .ok (.aload_n 0, 1) := dk_42 (dk_at dksX6_readsInCheck_0 4 rfl rfl)
theorem dX6_readsInCheck_5 : decode cX6_readsInCheck 5 = .ok (.getfield 266, 3) := dk_180 1 10 (dk_at dksX6_readsInCheck_0 5 rfl rfl)
theorem dX6_readsInCheck_8 : decode cX6_readsInCheck 8 = .ok (.iconst 1, 1) := dk_4 (dk_at dksX6_readsInCheck_0 8 rfl rfl)
theorem dX6_readsInCheck_9 : decode cX6_readsInCheck 9 = .ok (.isub, 1) := dk_100 (dk_at dksX6_readsInCheck_0 9 rfl rfl)
theorem dX6_readsInCheck_10 : decode cX6_readsInCheck 10 = .ok (.iaload, 1) := dk_46 (dk_at dksX6_readsInCheck_0 10 rfl rfl)
theorem dX6_readsInCheck_11 : decode cX6_readsInCheck 11 = .ok (.bipush 123, 2) := dk_16 123 (dk_at dksX6_readsInCheck_0 11 rfl rfl)
theorem dX6_readsInCheck_13 : decode cX6_readsInCheck 13 = .ok (.if_icmp .eq 8, 3) := dk_159 0 8 (dk_at dksX6_readsInCheck_0 13 rfl rfl)
theorem dX6_readsInCheck_16 : decode cX6_readsInCheck 16 = .ok (.aload_n 0, 1) := dk_42 (dk_at dksX6_readsInCheck_0 16 rfl rfl)
theorem dX6_readsInCheck_17 : decode cX6_readsInCheck 17 = .ok (.invokevirtual 332, 3) := dk_182 1 76 (dk_at dksX6_readsInCheck_0 17 rfl rfl)
theorem dX6_readsInCheck_20 : decode cX6_readsInCheck 20 = .ok (.ireturn, 1) := dk_172 (dk_at dksX6_readsInCheck_0 20 rfl rfl)
theorem dX6_readsInCheck_21 : decode cX6_readsInCheck 21 = .ok (.aload_n 0, 1) := dk_42 (dk_at dksX6_readsInCheck_0 21 rfl rfl)
theorem dX6_readsInCheck_22 : decode cX6_readsInCheck 22 = .ok (.invokevirtual 259, 3) := dk_182 1 3 (dk_at dksX6_readsInCheck_1 0 rfl rfl)
theorem dX6_readsInCheck_25 : decode cX6_readsInCheck 25 = .ok (.bipush 60, 2) := dk_16 60 (dk_at dksX6_readsInCheck_1 3 rfl rfl)
theorem dX6_readsInCheck_27 : decode cX6_readsInCheck 27 = .ok (.if_icmp .eq 12, 3) := dk_159 0 12 (dk_at dksX6_readsInCheck_1 5 rfl rfl)
theorem dX6_readsInCheck_30 : decode cX6_readsInCheck 30 = .ok (.aload_n 0, 1) := dk_42 (dk_at dksX6_readsInCheck_1 8 rfl rfl)
theorem dX6_readsInCheck_31 : decode cX6_readsInCheck 31 = .ok (.invokevirtual 259, 3) := dk_182 1 3 (dk_at dksX6_readsInCheck_1 9 rfl rfl)
theorem dX6_readsInCheck_34 : decode cX6_readsInCheck 34 = .ok (.bipush 61, 2) := dk_16 61 (dk_at dksX6_readsInCheck_1 12 rfl rfl)
theorem dX6_readsInCheck_36 : decode cX6_readsInCheck 36 = .ok (.if_icmp .ne 8, 3) := dk_160 0 8 (dk_at dksX6_readsInCheck_1 14 rfl rfl)
theorem dX6_readsInCheck_39 : decode cX6_readsInCheck 39 = .ok (.aload_n 0, 1) := dk_42 (dk_at dksX6_readsInCheck_1 17 rfl rfl)
theorem dX6_readsInCheck_40 : decode cX6_readsInCheck 40 = .ok (.invokevirtual 335, 3) := dk_182 1 79 (dk_at dksX6_readsInCheck_1 18 rfl rfl)
theorem dX6_readsInCheck_43 : decode cX6_readsInCheck 43 = .ok (.ireturn, 1) := dk_172 (dk_at dksX6_readsInCheck_1 21 rfl rfl)
theorem dX6_readsInCheck_44 : decode cX6_readsInCheck 44 = .ok (.aload_n 0, 1) := dk_42 (dk_at dksX6_readsInCheck_1 22 rfl rfl)
theorem dX6_readsInCheck_45 : decode cX6_readsInCheck 45 = .ok (.invokevirtual 338, 3) := dk_182 1 82 (dk_at dksX6_readsInCheck_2 0 rfl rfl)
theorem dX6_readsInCheck_48 : decode cX6_readsInCheck 48 = .ok (.ifCond .ne 28, 3) := dk_154 0 28 (dk_at dksX6_readsInCheck_2 3 rfl rfl)
theorem dX6_readsInCheck_51 : decode cX6_readsInCheck 51 = .ok (.aload_n 0, 1) := dk_42 (dk_at dksX6_readsInCheck_2 6 rfl rfl)
theorem dX6_readsInCheck_52 : decode cX6_readsInCheck 52 = .ok (.getfield 103, 3) := dk_180 0 103 (dk_at dksX6_readsInCheck_2 7 rfl rfl)
theorem dX6_readsInCheck_55 : decode cX6_readsInCheck 55 = .ok (.aload_n 0, 1) := dk_42 (dk_at dksX6_readsInCheck_2 10 rfl rfl)
theorem dX6_readsInCheck_56 : decode cX6_readsInCheck 56 = .ok (.getfield 266, 3) := dk_180 1 10 (dk_at dksX6_readsInCheck_2 11 rfl rfl)
theorem dX6_readsInCheck_59 : decode cX6_readsInCheck 59 = .ok (.iconst 1, 1) := dk_4 (dk_at dksX6_readsInCheck_2 14 rfl rfl)
theorem dX6_readsInCheck_60 : decode cX6_readsInCheck 60 = .ok (.isub, 1) := dk_100 (dk_at dksX6_readsInCheck_2 15 rfl rfl)
theorem dX6_readsInCheck_61 : decode cX6_readsInCheck 61 = .ok (.iaload, 1) := dk_46 (dk_at dksX6_readsInCheck_2 16 rfl rfl)
theorem dX6_readsInCheck_62 : decode cX6_readsInCheck 62 = .ok (.iconst 0, 1) := dk_3 (dk_at dksX6_readsInCheck_2 17 rfl rfl)
theorem dX6_readsInCheck_63 : decode cX6_readsInCheck 63 = .ok (.invokestatic 295, 3) := dk_184 1 39 (dk_at dksX6_readsInCheck_2 18 rfl rfl)
theorem dX6_readsInCheck_66 : decode cX6_readsInCheck 66 = .ok (.ifCond .ne 14, 3) := dk_154 0 14 (dk_at dksX6_readsInCheck_2 21 rfl rfl)
theorem dX6_readsInCheck_69 : decode cX6_readsInCheck 69 = .ok (.aload_n 0, 1) := dk_42 (dk_at dksX6_readsInCheck_3 0 rfl rfl)
theorem dX6_readsInCheck_70 : decode cX6_readsInCheck 70 = .ok (.invokevirtual 341, 3) := dk_182 1 85 (dk_at dksX6_readsInCheck_3 1 rfl rfl)
theorem dX6_readsInCheck_73 : decode cX6_readsInCheck 73 = .ok (.ifCond .eq 7, 3) := dk_153 0 7 (dk_at dksX6_readsInCheck_3 4 rfl rfl)
theorem dX6_readsInCheck_76 : decode cX6_readsInCheck 76 = .ok (.iconst 1, 1) := dk_4 (dk_at dksX6_readsInCheck_3 7 rfl rfl)
theorem dX6_readsInCheck_77 : decode cX6_readsInCheck 77 = .ok (.goto 4, 3) := dk_167 0 4 (dk_at dksX6_readsInCheck_3 8 rfl rfl)
theorem dX6_readsInCheck_80 : decode cX6_readsInCheck 80 = .ok (.iconst 0, 1) := dk_3 (dk_at dksX6_readsInCheck_3 11 rfl rfl)
theorem dX6_readsInCheck_81 : decode cX6_readsInCheck 81 = .ok (.ireturn, 1) := dk_172 (dk_at dksX6_readsInCheck_3 12 rfl rfl)
abbrev cX6_readsWaiter : ByteArray := prog_25_method_62_code
def yX6_readsWaiter : MethodName := ⟨RX6, "readsWaiter", "()Z"⟩
def dkwX6_readsWaiter_6 : List UInt8 := [21, 4, 79, 42, 89, 180, 0, 197, 4, 96, 181, 0, 197, 4, 172]
abbrev dktX6_readsWaiter_6 : List UInt8 := dkwX6_readsWaiter_6 ++ []
def dkwX6_readsWaiter_5 : List UInt8 := [42, 180, 0, 197, 28, 79, 42, 180, 0, 61, 42, 180, 0, 197, 29, 79, 42, 180, 0, 64, 42, 180, 0, 197]
abbrev dktX6_readsWaiter_5 : List UInt8 := dkwX6_readsWaiter_5 ++ dktX6_readsWaiter_6
def dkwX6_readsWaiter_4 : List UInt8 := [27, 182, 1, 13, 42, 180, 0, 55, 42, 180, 0, 197, 42, 180, 0, 97, 21, 5, 46, 79, 42, 180, 0, 58]
abbrev dktX6_readsWaiter_4 : List UInt8 := dkwX6_readsWaiter_4 ++ dktX6_readsWaiter_5
def dkwX6_readsWaiter_3 : List UInt8 := [46, 29, 184, 1, 39, 153, 0, 18, 42, 180, 0, 103, 21, 5, 46, 21, 4, 184, 1, 39, 154, 0, 8, 42]
abbrev dktX6_readsWaiter_3 : List UInt8 := dkwX6_readsWaiter_3 ++ dktX6_readsWaiter_4
def dkwX6_readsWaiter_2 : List UInt8 := [180, 1, 10, 4, 100, 54, 5, 42, 180, 0, 103, 21, 5, 92, 46, 4, 128, 79, 42, 180, 0, 103, 21, 5]
abbrev dktX6_readsWaiter_2 : List UInt8 := dkwX6_readsWaiter_2 ++ dktX6_readsWaiter_3
def dkwX6_readsWaiter_1 : List UInt8 := [62, 29, 156, 0, 8, 16, 247, 167, 0, 7, 42, 182, 1, 36, 54, 4, 21, 4, 156, 0, 5, 3, 172, 42]
abbrev dktX6_readsWaiter_1 : List UInt8 := dkwX6_readsWaiter_1 ++ dktX6_readsWaiter_2
def dkwX6_readsWaiter_0 : List UInt8 := [42, 180, 1, 0, 60, 42, 182, 1, 3, 61, 42, 89, 180, 1, 0, 4, 96, 181, 1, 0, 42, 182, 1, 36]
abbrev dktX6_readsWaiter_0 : List UInt8 := dkwX6_readsWaiter_0 ++ dktX6_readsWaiter_1
theorem dksX6_readsWaiter_0 : cX6_readsWaiter.data.toList.drop 0 = dktX6_readsWaiter_0 := by decide +kernel
theorem dksX6_readsWaiter_1 : cX6_readsWaiter.data.toList.drop 24 = dktX6_readsWaiter_1 := dk_seg dksX6_readsWaiter_0 24 rfl rfl
theorem dksX6_readsWaiter_2 : cX6_readsWaiter.data.toList.drop 48 = dktX6_readsWaiter_2 := dk_seg dksX6_readsWaiter_1 24 rfl rfl
theorem dksX6_readsWaiter_3 : cX6_readsWaiter.data.toList.drop 72 = dktX6_readsWaiter_3 := dk_seg dksX6_readsWaiter_2 24 rfl rfl
theorem dksX6_readsWaiter_4 : cX6_readsWaiter.data.toList.drop 96 = dktX6_readsWaiter_4 := dk_seg dksX6_readsWaiter_3 24 rfl rfl
theorem dksX6_readsWaiter_5 : cX6_readsWaiter.data.toList.drop 120 = dktX6_readsWaiter_5 := dk_seg dksX6_readsWaiter_4 24 rfl rfl
theorem dksX6_readsWaiter_6 : cX6_readsWaiter.data.toList.drop 144 = dktX6_readsWaiter_6 := dk_seg dksX6_readsWaiter_5 24 rfl rfl
theorem dX6_readsWaiter_0 : decode cX6_readsWaiter 0 = .ok (.aload_n 0, 1) := dk_42 (dk_at dksX6_readsWaiter_0 0 rfl rfl)
theorem dX6_readsWaiter_1 : decode cX6_readsWaiter 1 = .ok (.getfield 256, 3) := dk_180 1 0 (dk_at dksX6_readsWaiter_0 1 rfl rfl)
theorem dX6_readsWaiter_4 : decode cX6_readsWaiter 4 = .ok (.istore_n 1, 1) := dk_60 (dk_at dksX6_readsWaiter_0 4 rfl rfl)
theorem dX6_readsWaiter_5 : decode cX6_readsWaiter 5 = .ok (.aload_n 0, 1) := dk_42 (dk_at dksX6_readsWaiter_0 5 rfl rfl)
theorem dX6_readsWaiter_6 : decode cX6_readsWaiter 6 = .ok (.invokevirtual 259, 3) := dk_182 1 3 (dk_at dksX6_readsWaiter_0 6 rfl rfl)
theorem dX6_readsWaiter_9 : decode cX6_readsWaiter 9 = .ok (.istore_n 2, 1) := dk_61 (dk_at dksX6_readsWaiter_0 9 rfl rfl)
theorem dX6_readsWaiter_10 : decode cX6_readsWaiter 10 = .ok (.aload_n 0, 1) := dk_42 (dk_at dksX6_readsWaiter_0 10 rfl rfl)
theorem dX6_readsWaiter_11 : decode cX6_readsWaiter 11 = .ok (.dup, 1) := dk_89 (dk_at dksX6_readsWaiter_0 11 rfl rfl)
theorem dX6_readsWaiter_12 : decode cX6_readsWaiter 12 = .ok (.getfield 256, 3) := dk_180 1 0 (dk_at dksX6_readsWaiter_0 12 rfl rfl)
theorem dX6_readsWaiter_15 : decode cX6_readsWaiter 15 = .ok (.iconst 1, 1) := dk_4 (dk_at dksX6_readsWaiter_0 15 rfl rfl)
theorem dX6_readsWaiter_16 : decode cX6_readsWaiter 16 = .ok (.iadd, 1) := dk_96 (dk_at dksX6_readsWaiter_0 16 rfl rfl)
theorem dX6_readsWaiter_17 : decode cX6_readsWaiter 17 = .ok (.putfield 256, 3) := dk_181 1 0 (dk_at dksX6_readsWaiter_0 17 rfl rfl)
theorem dX6_readsWaiter_20 : decode cX6_readsWaiter 20 = .ok (.aload_n 0, 1) := dk_42 (dk_at dksX6_readsWaiter_0 20 rfl rfl)
theorem dX6_readsWaiter_21 : decode cX6_readsWaiter 21 = .ok (.invokevirtual 292, 3) := dk_182 1 36 (dk_at dksX6_readsWaiter_0 21 rfl rfl)
theorem dX6_readsWaiter_24 : decode cX6_readsWaiter 24 = .ok (.istore_n 3, 1) := dk_62 (dk_at dksX6_readsWaiter_1 0 rfl rfl)
theorem dX6_readsWaiter_25 : decode cX6_readsWaiter 25 = .ok (.iload_n 3, 1) := dk_29 (dk_at dksX6_readsWaiter_1 1 rfl rfl)
theorem dX6_readsWaiter_26 : decode cX6_readsWaiter 26 = .ok (.ifCond .ge 8, 3) := dk_156 0 8 (dk_at dksX6_readsWaiter_1 2 rfl rfl)
theorem dX6_readsWaiter_29 : decode cX6_readsWaiter 29 = .ok (.bipush (-9), 2) := dk_16 247 (dk_at dksX6_readsWaiter_1 5 rfl rfl)
theorem dX6_readsWaiter_31 : decode cX6_readsWaiter 31 = .ok (.goto 7, 3) := dk_167 0 7 (dk_at dksX6_readsWaiter_1 7 rfl rfl)
theorem dX6_readsWaiter_34 : decode cX6_readsWaiter 34 = .ok (.aload_n 0, 1) := dk_42 (dk_at dksX6_readsWaiter_1 10 rfl rfl)
theorem dX6_readsWaiter_35 : decode cX6_readsWaiter 35 = .ok (.invokevirtual 292, 3) := dk_182 1 36 (dk_at dksX6_readsWaiter_1 11 rfl rfl)
theorem dX6_readsWaiter_38 : decode cX6_readsWaiter 38 = .ok (.istore 4, 2) := dk_54 4 (dk_at dksX6_readsWaiter_1 14 rfl rfl)
theorem dX6_readsWaiter_40 : decode cX6_readsWaiter 40 = .ok (.iload 4, 2) := dk_21 4 (dk_at dksX6_readsWaiter_1 16 rfl rfl)
theorem dX6_readsWaiter_42 : decode cX6_readsWaiter 42 = .ok (.ifCond .ge 5, 3) := dk_156 0 5 (dk_at dksX6_readsWaiter_1 18 rfl rfl)
theorem dX6_readsWaiter_45 : decode cX6_readsWaiter 45 = .ok (.iconst 0, 1) := dk_3 (dk_at dksX6_readsWaiter_1 21 rfl rfl)
theorem dX6_readsWaiter_46 : decode cX6_readsWaiter 46 = .ok (.ireturn, 1) := dk_172 (dk_at dksX6_readsWaiter_1 22 rfl rfl)
theorem dX6_readsWaiter_47 : decode cX6_readsWaiter 47 = .ok (.aload_n 0, 1) := dk_42 (dk_at dksX6_readsWaiter_1 23 rfl rfl)
theorem dX6_readsWaiter_48 : decode cX6_readsWaiter 48 = .ok (.getfield 266, 3) := dk_180 1 10 (dk_at dksX6_readsWaiter_2 0 rfl rfl)
theorem dX6_readsWaiter_51 : decode cX6_readsWaiter 51 = .ok (.iconst 1, 1) := dk_4 (dk_at dksX6_readsWaiter_2 3 rfl rfl)
theorem dX6_readsWaiter_52 : decode cX6_readsWaiter 52 = .ok (.isub, 1) := dk_100 (dk_at dksX6_readsWaiter_2 4 rfl rfl)
theorem dX6_readsWaiter_53 : decode cX6_readsWaiter 53 = .ok (.istore 5, 2) := dk_54 5 (dk_at dksX6_readsWaiter_2 5 rfl rfl)
theorem dX6_readsWaiter_55 : decode cX6_readsWaiter 55 = .ok (.aload_n 0, 1) := dk_42 (dk_at dksX6_readsWaiter_2 7 rfl rfl)
theorem dX6_readsWaiter_56 : decode cX6_readsWaiter 56 = .ok (.getfield 103, 3) := dk_180 0 103 (dk_at dksX6_readsWaiter_2 8 rfl rfl)
theorem dX6_readsWaiter_59 : decode cX6_readsWaiter 59 = .ok (.iload 5, 2) := dk_21 5 (dk_at dksX6_readsWaiter_2 11 rfl rfl)
theorem dX6_readsWaiter_61 : decode cX6_readsWaiter 61 = .ok (.dup2, 1) := dk_92 (dk_at dksX6_readsWaiter_2 13 rfl rfl)
theorem dX6_readsWaiter_62 : decode cX6_readsWaiter 62 = .ok (.iaload, 1) := dk_46 (dk_at dksX6_readsWaiter_2 14 rfl rfl)
theorem dX6_readsWaiter_63 : decode cX6_readsWaiter 63 = .ok (.iconst 1, 1) := dk_4 (dk_at dksX6_readsWaiter_2 15 rfl rfl)
theorem dX6_readsWaiter_64 : decode cX6_readsWaiter 64 = .ok (.ior, 1) := dk_128 (dk_at dksX6_readsWaiter_2 16 rfl rfl)
theorem dX6_readsWaiter_65 : decode cX6_readsWaiter 65 = .ok (.iastore, 1) := dk_79 (dk_at dksX6_readsWaiter_2 17 rfl rfl)
theorem dX6_readsWaiter_66 : decode cX6_readsWaiter 66 = .ok (.aload_n 0, 1) := dk_42 (dk_at dksX6_readsWaiter_2 18 rfl rfl)
theorem dX6_readsWaiter_67 : decode cX6_readsWaiter 67 = .ok (.getfield 103, 3) := dk_180 0 103 (dk_at dksX6_readsWaiter_2 19 rfl rfl)
theorem dX6_readsWaiter_70 : decode cX6_readsWaiter 70 = .ok (.iload 5, 2) := dk_21 5 (dk_at dksX6_readsWaiter_2 22 rfl rfl)
theorem dX6_readsWaiter_72 : decode cX6_readsWaiter 72 = .ok (.iaload, 1) := dk_46 (dk_at dksX6_readsWaiter_3 0 rfl rfl)
theorem dX6_readsWaiter_73 : decode cX6_readsWaiter 73 = .ok (.iload_n 3, 1) := dk_29 (dk_at dksX6_readsWaiter_3 1 rfl rfl)
theorem dX6_readsWaiter_74 : decode cX6_readsWaiter 74 = .ok (.invokestatic 295, 3) := dk_184 1 39 (dk_at dksX6_readsWaiter_3 2 rfl rfl)
theorem dX6_readsWaiter_77 : decode cX6_readsWaiter 77 = .ok (.ifCond .eq 18, 3) := dk_153 0 18 (dk_at dksX6_readsWaiter_3 5 rfl rfl)
theorem dX6_readsWaiter_80 : decode cX6_readsWaiter 80 = .ok (.aload_n 0, 1) := dk_42 (dk_at dksX6_readsWaiter_3 8 rfl rfl)
theorem dX6_readsWaiter_81 : decode cX6_readsWaiter 81 = .ok (.getfield 103, 3) := dk_180 0 103 (dk_at dksX6_readsWaiter_3 9 rfl rfl)
theorem dX6_readsWaiter_84 : decode cX6_readsWaiter 84 = .ok (.iload 5, 2) := dk_21 5 (dk_at dksX6_readsWaiter_3 12 rfl rfl)
theorem dX6_readsWaiter_86 : decode cX6_readsWaiter 86 = .ok (.iaload, 1) := dk_46 (dk_at dksX6_readsWaiter_3 14 rfl rfl)
theorem dX6_readsWaiter_87 : decode cX6_readsWaiter 87 = .ok (.iload 4, 2) := dk_21 4 (dk_at dksX6_readsWaiter_3 15 rfl rfl)
theorem dX6_readsWaiter_89 : decode cX6_readsWaiter 89 = .ok (.invokestatic 295, 3) := dk_184 1 39 (dk_at dksX6_readsWaiter_3 17 rfl rfl)
theorem dX6_readsWaiter_92 : decode cX6_readsWaiter 92 = .ok (.ifCond .ne 8, 3) := dk_154 0 8 (dk_at dksX6_readsWaiter_3 20 rfl rfl)
theorem dX6_readsWaiter_95 : decode cX6_readsWaiter 95 = .ok (.aload_n 0, 1) := dk_42 (dk_at dksX6_readsWaiter_3 23 rfl rfl)
theorem dX6_readsWaiter_96 : decode cX6_readsWaiter 96 = .ok (.iload_n 1, 1) := dk_27 (dk_at dksX6_readsWaiter_4 0 rfl rfl)
theorem dX6_readsWaiter_97 : decode cX6_readsWaiter 97 = .ok (.invokevirtual 269, 3) := dk_182 1 13 (dk_at dksX6_readsWaiter_4 1 rfl rfl)
theorem dX6_readsWaiter_100 : decode cX6_readsWaiter 100 = .ok (.aload_n 0, 1) := dk_42 (dk_at dksX6_readsWaiter_4 4 rfl rfl)
theorem dX6_readsWaiter_101 : decode cX6_readsWaiter 101 = .ok (.getfield 55, 3) := dk_180 0 55 (dk_at dksX6_readsWaiter_4 5 rfl rfl)
theorem dX6_readsWaiter_104 : decode cX6_readsWaiter 104 = .ok (.aload_n 0, 1) := dk_42 (dk_at dksX6_readsWaiter_4 8 rfl rfl)
theorem dX6_readsWaiter_105 : decode cX6_readsWaiter 105 = .ok (.getfield 197, 3) := dk_180 0 197 (dk_at dksX6_readsWaiter_4 9 rfl rfl)
theorem dX6_readsWaiter_108 : decode cX6_readsWaiter 108 = .ok (.aload_n 0, 1) := dk_42 (dk_at dksX6_readsWaiter_4 12 rfl rfl)
theorem dX6_readsWaiter_109 : decode cX6_readsWaiter 109 = .ok (.getfield 97, 3) := dk_180 0 97 (dk_at dksX6_readsWaiter_4 13 rfl rfl)
theorem dX6_readsWaiter_112 : decode cX6_readsWaiter 112 = .ok (.iload 5, 2) := dk_21 5 (dk_at dksX6_readsWaiter_4 16 rfl rfl)
theorem dX6_readsWaiter_114 : decode cX6_readsWaiter 114 = .ok (.iaload, 1) := dk_46 (dk_at dksX6_readsWaiter_4 18 rfl rfl)
theorem dX6_readsWaiter_115 : decode cX6_readsWaiter 115 = .ok (.iastore, 1) := dk_79 (dk_at dksX6_readsWaiter_4 19 rfl rfl)
theorem dX6_readsWaiter_116 : decode cX6_readsWaiter 116 = .ok (.aload_n 0, 1) := dk_42 (dk_at dksX6_readsWaiter_4 20 rfl rfl)
theorem dX6_readsWaiter_117 : decode cX6_readsWaiter 117 = .ok (.getfield 58, 3) := dk_180 0 58 (dk_at dksX6_readsWaiter_4 21 rfl rfl)
theorem dX6_readsWaiter_120 : decode cX6_readsWaiter 120 = .ok (.aload_n 0, 1) := dk_42 (dk_at dksX6_readsWaiter_5 0 rfl rfl)
theorem dX6_readsWaiter_121 : decode cX6_readsWaiter 121 = .ok (.getfield 197, 3) := dk_180 0 197 (dk_at dksX6_readsWaiter_5 1 rfl rfl)
theorem dX6_readsWaiter_124 : decode cX6_readsWaiter 124 = .ok (.iload_n 2, 1) := dk_28 (dk_at dksX6_readsWaiter_5 4 rfl rfl)
theorem dX6_readsWaiter_125 : decode cX6_readsWaiter 125 = .ok (.iastore, 1) := dk_79 (dk_at dksX6_readsWaiter_5 5 rfl rfl)
theorem dX6_readsWaiter_126 : decode cX6_readsWaiter 126 = .ok (.aload_n 0, 1) := dk_42 (dk_at dksX6_readsWaiter_5 6 rfl rfl)
theorem dX6_readsWaiter_127 : decode cX6_readsWaiter 127 = .ok (.getfield 61, 3) := dk_180 0 61 (dk_at dksX6_readsWaiter_5 7 rfl rfl)
theorem dX6_readsWaiter_130 : decode cX6_readsWaiter 130 = .ok (.aload_n 0, 1) := dk_42 (dk_at dksX6_readsWaiter_5 10 rfl rfl)
theorem dX6_readsWaiter_131 : decode cX6_readsWaiter 131 = .ok (.getfield 197, 3) := dk_180 0 197 (dk_at dksX6_readsWaiter_5 11 rfl rfl)
theorem dX6_readsWaiter_134 : decode cX6_readsWaiter 134 = .ok (.iload_n 3, 1) := dk_29 (dk_at dksX6_readsWaiter_5 14 rfl rfl)
theorem dX6_readsWaiter_135 : decode cX6_readsWaiter 135 = .ok (.iastore, 1) := dk_79 (dk_at dksX6_readsWaiter_5 15 rfl rfl)
theorem dX6_readsWaiter_136 : decode cX6_readsWaiter 136 = .ok (.aload_n 0, 1) := dk_42 (dk_at dksX6_readsWaiter_5 16 rfl rfl)
theorem dX6_readsWaiter_137 : decode cX6_readsWaiter 137 = .ok (.getfield 64, 3) := dk_180 0 64 (dk_at dksX6_readsWaiter_5 17 rfl rfl)
theorem dX6_readsWaiter_140 : decode cX6_readsWaiter 140 = .ok (.aload_n 0, 1) := dk_42 (dk_at dksX6_readsWaiter_5 20 rfl rfl)
theorem dX6_readsWaiter_141 : decode cX6_readsWaiter 141 = .ok (.getfield 197, 3) := dk_180 0 197 (dk_at dksX6_readsWaiter_5 21 rfl rfl)
theorem dX6_readsWaiter_144 : decode cX6_readsWaiter 144 = .ok (.iload 4, 2) := dk_21 4 (dk_at dksX6_readsWaiter_6 0 rfl rfl)
theorem dX6_readsWaiter_146 : decode cX6_readsWaiter 146 = .ok (.iastore, 1) := dk_79 (dk_at dksX6_readsWaiter_6 2 rfl rfl)
theorem dX6_readsWaiter_147 : decode cX6_readsWaiter 147 = .ok (.aload_n 0, 1) := dk_42 (dk_at dksX6_readsWaiter_6 3 rfl rfl)
theorem dX6_readsWaiter_148 : decode cX6_readsWaiter 148 = .ok (.dup, 1) := dk_89 (dk_at dksX6_readsWaiter_6 4 rfl rfl)
theorem dX6_readsWaiter_149 : decode cX6_readsWaiter 149 = .ok (.getfield 197, 3) := dk_180 0 197 (dk_at dksX6_readsWaiter_6 5 rfl rfl)
theorem dX6_readsWaiter_152 : decode cX6_readsWaiter 152 = .ok (.iconst 1, 1) := dk_4 (dk_at dksX6_readsWaiter_6 8 rfl rfl)
theorem dX6_readsWaiter_153 : decode cX6_readsWaiter 153 = .ok (.iadd, 1) := dk_96 (dk_at dksX6_readsWaiter_6 9 rfl rfl)
theorem dX6_readsWaiter_154 : decode cX6_readsWaiter 154 = .ok (.putfield 197, 3) := dk_181 0 197 (dk_at dksX6_readsWaiter_6 10 rfl rfl)
theorem dX6_readsWaiter_157 : decode cX6_readsWaiter 157 = .ok (.iconst 1, 1) := dk_4 (dk_at dksX6_readsWaiter_6 13 rfl rfl)
theorem dX6_readsWaiter_158 : decode cX6_readsWaiter 158 = .ok (.ireturn, 1) := dk_172 (dk_at dksX6_readsWaiter_6 14 rfl rfl)
abbrev cX6_closesRecord : ByteArray := prog_25_method_63_code
def yX6_closesRecord : MethodName := ⟨RX6, "closesRecord", "()Z"⟩
def dkwX6_closesRecord_1 : List UInt8 := [180, 0, 97, 42, 180, 1, 10, 46, 182, 1, 73, 4, 172]
abbrev dktX6_closesRecord_1 : List UInt8 := dkwX6_closesRecord_1 ++ []
def dkwX6_closesRecord_0 : List UInt8 := [42, 16, 125, 182, 1, 33, 154, 0, 5, 3, 172, 42, 89, 180, 1, 10, 4, 100, 181, 1, 10, 42, 42]
abbrev dktX6_closesRecord_0 : List UInt8 := dkwX6_closesRecord_0 ++ dktX6_closesRecord_1
theorem dksX6_closesRecord_0 : cX6_closesRecord.data.toList.drop 0 = dktX6_closesRecord_0 := by decide +kernel
theorem dksX6_closesRecord_1 : cX6_closesRecord.data.toList.drop 23 = dktX6_closesRecord_1 := dk_seg dksX6_closesRecord_0 23 rfl rfl
theorem dX6_closesRecord_0 : decode cX6_closesRecord 0 = .ok (.aload_n 0, 1) := dk_42 (dk_at dksX6_closesRecord_0 0 rfl rfl)
theorem dX6_closesRecord_1 : decode cX6_closesRecord 1 = .ok (.bipush 125, 2) := dk_16 125 (dk_at dksX6_closesRecord_0 1 rfl rfl)
theorem dX6_closesRecord_3 : decode cX6_closesRecord 3 = .ok (.invokevirtual 289, 3) := dk_182 1 33 (dk_at dksX6_closesRecord_0 3 rfl rfl)
theorem dX6_closesRecord_6 : decode cX6_closesRecord 6 = .ok (.ifCond .ne 5, 3) := dk_154 0 5 (dk_at dksX6_closesRecord_0 6 rfl rfl)
theorem dX6_closesRecord_9 : decode cX6_closesRecord 9 = .ok (.iconst 0, 1) := dk_3 (dk_at dksX6_closesRecord_0 9 rfl rfl)
theorem dX6_closesRecord_10 : decode cX6_closesRecord 10 = .ok (.ireturn, 1) := dk_172 (dk_at dksX6_closesRecord_0 10 rfl rfl)
theorem dX6_closesRecord_11 : decode cX6_closesRecord 11 = .ok (.aload_n 0, 1) := dk_42 (dk_at dksX6_closesRecord_0 11 rfl rfl)
theorem dX6_closesRecord_12 : decode cX6_closesRecord 12 = .ok (.dup, 1) := dk_89 (dk_at dksX6_closesRecord_0 12 rfl rfl)
theorem dX6_closesRecord_13 : decode cX6_closesRecord 13 = .ok (.getfield 266, 3) := dk_180 1 10 (dk_at dksX6_closesRecord_0 13 rfl rfl)
theorem dX6_closesRecord_16 : decode cX6_closesRecord 16 = .ok (.iconst 1, 1) := dk_4 (dk_at dksX6_closesRecord_0 16 rfl rfl)
theorem dX6_closesRecord_17 : decode cX6_closesRecord 17 = .ok (.isub, 1) := dk_100 (dk_at dksX6_closesRecord_0 17 rfl rfl)
theorem dX6_closesRecord_18 : decode cX6_closesRecord 18 = .ok (.putfield 266, 3) := dk_181 1 10 (dk_at dksX6_closesRecord_0 18 rfl rfl)
theorem dX6_closesRecord_21 : decode cX6_closesRecord 21 = .ok (.aload_n 0, 1) := dk_42 (dk_at dksX6_closesRecord_0 21 rfl rfl)
theorem dX6_closesRecord_22 : decode cX6_closesRecord 22 = .ok (.aload_n 0, 1) := dk_42 (dk_at dksX6_closesRecord_0 22 rfl rfl)
theorem dX6_closesRecord_23 : decode cX6_closesRecord 23 = .ok (.getfield 97, 3) := dk_180 0 97 (dk_at dksX6_closesRecord_1 0 rfl rfl)
theorem dX6_closesRecord_26 : decode cX6_closesRecord 26 = .ok (.aload_n 0, 1) := dk_42 (dk_at dksX6_closesRecord_1 3 rfl rfl)
theorem dX6_closesRecord_27 : decode cX6_closesRecord 27 = .ok (.getfield 266, 3) := dk_180 1 10 (dk_at dksX6_closesRecord_1 4 rfl rfl)
theorem dX6_closesRecord_30 : decode cX6_closesRecord 30 = .ok (.iaload, 1) := dk_46 (dk_at dksX6_closesRecord_1 7 rfl rfl)
theorem dX6_closesRecord_31 : decode cX6_closesRecord 31 = .ok (.invokevirtual 329, 3) := dk_182 1 73 (dk_at dksX6_closesRecord_1 8 rfl rfl)
theorem dX6_closesRecord_34 : decode cX6_closesRecord 34 = .ok (.iconst 1, 1) := dk_4 (dk_at dksX6_closesRecord_1 11 rfl rfl)
theorem dX6_closesRecord_35 : decode cX6_closesRecord 35 = .ok (.ireturn, 1) := dk_172 (dk_at dksX6_closesRecord_1 12 rfl rfl)
abbrev cX6_readsCheckField : ByteArray := prog_25_method_61_code
def yX6_readsCheckField : MethodName := ⟨RX6, "readsCheckField", "()Z"⟩
def dkwX6_readsCheckField_6 : List UInt8 := [182, 1, 76, 172]
abbrev dktX6_readsCheckField_6 : List UInt8 := dkwX6_readsCheckField_6 ++ []
def dkwX6_readsCheckField_5 : List UInt8 := [28, 79, 42, 180, 0, 106, 21, 4, 21, 5, 79, 42, 89, 180, 0, 169, 4, 96, 181, 0, 169, 42]
abbrev dktX6_readsCheckField_5 : List UInt8 := dkwX6_readsCheckField_5 ++ dktX6_readsCheckField_6
def dkwX6_readsCheckField_4 : List UInt8 := [21, 5, 42, 180, 0, 97, 21, 4, 46, 79, 42, 180, 0, 46, 21, 5, 29, 79, 42, 180, 0, 49, 21, 5]
abbrev dktX6_readsCheckField_4 : List UInt8 := dkwX6_readsCheckField_4 ++ dktX6_readsCheckField_5
def dkwX6_readsCheckField_3 : List UInt8 := [42, 180, 0, 169, 16, 24, 162, 0, 10, 42, 180, 0, 169, 167, 0, 5, 16, 24, 54, 5, 42, 180, 0, 43]
abbrev dktX6_readsCheckField_3 : List UInt8 := dkwX6_readsCheckField_3 ++ dktX6_readsCheckField_4
def dkwX6_readsCheckField_2 : List UInt8 := [184, 1, 39, 153, 0, 8, 42, 27, 182, 1, 13, 42, 180, 0, 103, 21, 4, 92, 46, 4, 29, 120, 128, 79]
abbrev dktX6_readsCheckField_2 : List UInt8 := dkwX6_readsCheckField_2 ++ dktX6_readsCheckField_3
def dkwX6_readsCheckField_1 : List UInt8 := [62, 29, 156, 0, 5, 3, 172, 42, 180, 1, 10, 4, 100, 54, 4, 42, 180, 0, 103, 21, 4, 46, 29]
abbrev dktX6_readsCheckField_1 : List UInt8 := dkwX6_readsCheckField_1 ++ dktX6_readsCheckField_2
def dkwX6_readsCheckField_0 : List UInt8 := [42, 180, 1, 0, 60, 42, 16, 46, 182, 1, 33, 153, 0, 7, 4, 167, 0, 4, 3, 61, 42, 182, 1, 36]
abbrev dktX6_readsCheckField_0 : List UInt8 := dkwX6_readsCheckField_0 ++ dktX6_readsCheckField_1
theorem dksX6_readsCheckField_0 : cX6_readsCheckField.data.toList.drop 0 = dktX6_readsCheckField_0 := by decide +kernel
theorem dksX6_readsCheckField_1 : cX6_readsCheckField.data.toList.drop 24 = dktX6_readsCheckField_1 := dk_seg dksX6_readsCheckField_0 24 rfl rfl
theorem dksX6_readsCheckField_2 : cX6_readsCheckField.data.toList.drop 47 = dktX6_readsCheckField_2 := dk_seg dksX6_readsCheckField_1 23 rfl rfl
theorem dksX6_readsCheckField_3 : cX6_readsCheckField.data.toList.drop 71 = dktX6_readsCheckField_3 := dk_seg dksX6_readsCheckField_2 24 rfl rfl
theorem dksX6_readsCheckField_4 : cX6_readsCheckField.data.toList.drop 95 = dktX6_readsCheckField_4 := dk_seg dksX6_readsCheckField_3 24 rfl rfl
theorem dksX6_readsCheckField_5 : cX6_readsCheckField.data.toList.drop 119 = dktX6_readsCheckField_5 := dk_seg dksX6_readsCheckField_4 24 rfl rfl
theorem dksX6_readsCheckField_6 : cX6_readsCheckField.data.toList.drop 141 = dktX6_readsCheckField_6 := dk_seg dksX6_readsCheckField_5 22 rfl rfl
theorem dX6_readsCheckField_0 : decode cX6_readsCheckField 0 = .ok (.aload_n 0, 1) := dk_42 (dk_at dksX6_readsCheckField_0 0 rfl rfl)
theorem dX6_readsCheckField_1 : decode cX6_readsCheckField 1 = .ok (.getfield 256, 3) := dk_180 1 0 (dk_at dksX6_readsCheckField_0 1 rfl rfl)
theorem dX6_readsCheckField_4 : decode cX6_readsCheckField 4 = .ok (.istore_n 1, 1) := dk_60 (dk_at dksX6_readsCheckField_0 4 rfl rfl)
theorem dX6_readsCheckField_5 : decode cX6_readsCheckField 5 = .ok (.aload_n 0, 1) := dk_42 (dk_at dksX6_readsCheckField_0 5 rfl rfl)
theorem dX6_readsCheckField_6 : decode cX6_readsCheckField 6 = .ok (.bipush 46, 2) := dk_16 46 (dk_at dksX6_readsCheckField_0 6 rfl rfl)
theorem dX6_readsCheckField_8 : decode cX6_readsCheckField 8 = .ok (.invokevirtual 289, 3) := dk_182 1 33 (dk_at dksX6_readsCheckField_0 8 rfl rfl)
theorem dX6_readsCheckField_11 : decode cX6_readsCheckField 11 = .ok (.ifCond .eq 7, 3) := dk_153 0 7 (dk_at dksX6_readsCheckField_0 11 rfl rfl)
theorem dX6_readsCheckField_14 : decode cX6_readsCheckField 14 = .ok (.iconst 1, 1) := dk_4 (dk_at dksX6_readsCheckField_0 14 rfl rfl)
theorem dX6_readsCheckField_15 : decode cX6_readsCheckField 15 = .ok (.goto 4, 3) := dk_167 0 4 (dk_at dksX6_readsCheckField_0 15 rfl rfl)
theorem dX6_readsCheckField_18 : decode cX6_readsCheckField 18 = .ok (.iconst 0, 1) := dk_3 (dk_at dksX6_readsCheckField_0 18 rfl rfl)
theorem dX6_readsCheckField_19 : decode cX6_readsCheckField 19 = .ok (.istore_n 2, 1) := dk_61 (dk_at dksX6_readsCheckField_0 19 rfl rfl)
theorem dX6_readsCheckField_20 : decode cX6_readsCheckField 20 = .ok (.aload_n 0, 1) := dk_42 (dk_at dksX6_readsCheckField_0 20 rfl rfl)
theorem dX6_readsCheckField_21 : decode cX6_readsCheckField 21 = .ok (.invokevirtual 292, 3) := dk_182 1 36 (dk_at dksX6_readsCheckField_0 21 rfl rfl)
theorem dX6_readsCheckField_24 : decode cX6_readsCheckField 24 = .ok (.istore_n 3, 1) := dk_62 (dk_at dksX6_readsCheckField_1 0 rfl rfl)
theorem dX6_readsCheckField_25 : decode cX6_readsCheckField 25 = .ok (.iload_n 3, 1) := dk_29 (dk_at dksX6_readsCheckField_1 1 rfl rfl)
theorem dX6_readsCheckField_26 : decode cX6_readsCheckField 26 = .ok (.ifCond .ge 5, 3) := dk_156 0 5 (dk_at dksX6_readsCheckField_1 2 rfl rfl)
theorem dX6_readsCheckField_29 : decode cX6_readsCheckField 29 = .ok (.iconst 0, 1) := dk_3 (dk_at dksX6_readsCheckField_1 5 rfl rfl)
theorem dX6_readsCheckField_30 : decode cX6_readsCheckField 30 = .ok (.ireturn, 1) := dk_172 (dk_at dksX6_readsCheckField_1 6 rfl rfl)
theorem dX6_readsCheckField_31 : decode cX6_readsCheckField 31 = .ok (.aload_n 0, 1) := dk_42 (dk_at dksX6_readsCheckField_1 7 rfl rfl)
theorem dX6_readsCheckField_32 : decode cX6_readsCheckField 32 = .ok (.getfield 266, 3) := dk_180 1 10 (dk_at dksX6_readsCheckField_1 8 rfl rfl)
theorem dX6_readsCheckField_35 : decode cX6_readsCheckField 35 = .ok (.iconst 1, 1) := dk_4 (dk_at dksX6_readsCheckField_1 11 rfl rfl)
theorem dX6_readsCheckField_36 : decode cX6_readsCheckField 36 = .ok (.isub, 1) := dk_100 (dk_at dksX6_readsCheckField_1 12 rfl rfl)
theorem dX6_readsCheckField_37 : decode cX6_readsCheckField 37 = .ok (.istore 4, 2) := dk_54 4 (dk_at dksX6_readsCheckField_1 13 rfl rfl)
theorem dX6_readsCheckField_39 : decode cX6_readsCheckField 39 = .ok (.aload_n 0, 1) := dk_42 (dk_at dksX6_readsCheckField_1 15 rfl rfl)
theorem dX6_readsCheckField_40 : decode cX6_readsCheckField 40 = .ok (.getfield 103, 3) := dk_180 0 103 (dk_at dksX6_readsCheckField_1 16 rfl rfl)
theorem dX6_readsCheckField_43 : decode cX6_readsCheckField 43 = .ok (.iload 4, 2) := dk_21 4 (dk_at dksX6_readsCheckField_1 19 rfl rfl)
theorem dX6_readsCheckField_45 : decode cX6_readsCheckField 45 = .ok (.iaload, 1) := dk_46 (dk_at dksX6_readsCheckField_1 21 rfl rfl)
theorem dX6_readsCheckField_46 : decode cX6_readsCheckField 46 = .ok (.iload_n 3, 1) := dk_29 (dk_at dksX6_readsCheckField_1 22 rfl rfl)
theorem dX6_readsCheckField_47 : decode cX6_readsCheckField 47 = .ok (.invokestatic 295, 3) := dk_184 1 39 (dk_at dksX6_readsCheckField_2 0 rfl rfl)
theorem dX6_readsCheckField_50 : decode cX6_readsCheckField 50 = .ok (.ifCond .eq 8, 3) := dk_153 0 8 (dk_at dksX6_readsCheckField_2 3 rfl rfl)
theorem dX6_readsCheckField_53 : decode cX6_readsCheckField 53 = .ok (.aload_n 0, 1) := dk_42 (dk_at dksX6_readsCheckField_2 6 rfl rfl)
theorem dX6_readsCheckField_54 : decode cX6_readsCheckField 54 = .ok (.iload_n 1, 1) := dk_27 (dk_at dksX6_readsCheckField_2 7 rfl rfl)
theorem dX6_readsCheckField_55 : decode cX6_readsCheckField 55 = .ok (.invokevirtual 269, 3) := dk_182 1 13 (dk_at dksX6_readsCheckField_2 8 rfl rfl)
theorem dX6_readsCheckField_58 : decode cX6_readsCheckField 58 = .ok (.aload_n 0, 1) := dk_42 (dk_at dksX6_readsCheckField_2 11 rfl rfl)
theorem dX6_readsCheckField_59 : decode cX6_readsCheckField 59 = .ok (.getfield 103, 3) := dk_180 0 103 (dk_at dksX6_readsCheckField_2 12 rfl rfl)
theorem dX6_readsCheckField_62 : decode cX6_readsCheckField 62 = .ok (.iload 4, 2) := dk_21 4 (dk_at dksX6_readsCheckField_2 15 rfl rfl)
theorem dX6_readsCheckField_64 : decode cX6_readsCheckField 64 = .ok (.dup2, 1) := dk_92 (dk_at dksX6_readsCheckField_2 17 rfl rfl)
theorem dX6_readsCheckField_65 : decode cX6_readsCheckField 65 = .ok (.iaload, 1) := dk_46 (dk_at dksX6_readsCheckField_2 18 rfl rfl)
theorem dX6_readsCheckField_66 : decode cX6_readsCheckField 66 = .ok (.iconst 1, 1) := dk_4 (dk_at dksX6_readsCheckField_2 19 rfl rfl)
theorem dX6_readsCheckField_67 : decode cX6_readsCheckField 67 = .ok (.iload_n 3, 1) := dk_29 (dk_at dksX6_readsCheckField_2 20 rfl rfl)
theorem dX6_readsCheckField_68 : decode cX6_readsCheckField 68 = .ok (.ishl, 1) := dk_120 (dk_at dksX6_readsCheckField_2 21 rfl rfl)
theorem dX6_readsCheckField_69 : decode cX6_readsCheckField 69 = .ok (.ior, 1) := dk_128 (dk_at dksX6_readsCheckField_2 22 rfl rfl)
theorem dX6_readsCheckField_70 : decode cX6_readsCheckField 70 = .ok (.iastore, 1) := dk_79 (dk_at dksX6_readsCheckField_2 23 rfl rfl)
theorem dX6_readsCheckField_71 : decode cX6_readsCheckField 71 = .ok (.aload_n 0, 1) := dk_42 (dk_at dksX6_readsCheckField_3 0 rfl rfl)
theorem dX6_readsCheckField_72 : decode cX6_readsCheckField 72 = .ok (.getfield 169, 3) := dk_180 0 169 (dk_at dksX6_readsCheckField_3 1 rfl rfl)
theorem dX6_readsCheckField_75 : decode cX6_readsCheckField 75 = .ok (.bipush 24, 2) := dk_16 24 (dk_at dksX6_readsCheckField_3 4 rfl rfl)
theorem dX6_readsCheckField_77 : decode cX6_readsCheckField 77 = .ok (.if_icmp .ge 10, 3) := dk_162 0 10 (dk_at dksX6_readsCheckField_3 6 rfl rfl)
theorem dX6_readsCheckField_80 : decode cX6_readsCheckField 80 = .ok (.aload_n 0, 1) := dk_42 (dk_at dksX6_readsCheckField_3 9 rfl rfl)
theorem dX6_readsCheckField_81 : decode cX6_readsCheckField 81 = .ok (.getfield 169, 3) := dk_180 0 169 (dk_at dksX6_readsCheckField_3 10 rfl rfl)
theorem dX6_readsCheckField_84 : decode cX6_readsCheckField 84 = .ok (.goto 5, 3) := dk_167 0 5 (dk_at dksX6_readsCheckField_3 13 rfl rfl)
theorem dX6_readsCheckField_87 : decode cX6_readsCheckField 87 = .ok (.bipush 24, 2) := dk_16 24 (dk_at dksX6_readsCheckField_3 16 rfl rfl)
theorem dX6_readsCheckField_89 : decode cX6_readsCheckField 89 = .ok (.istore 5, 2) := dk_54 5 (dk_at dksX6_readsCheckField_3 18 rfl rfl)
theorem dX6_readsCheckField_91 : decode cX6_readsCheckField 91 = .ok (.aload_n 0, 1) := dk_42 (dk_at dksX6_readsCheckField_3 20 rfl rfl)
theorem dX6_readsCheckField_92 : decode cX6_readsCheckField 92 = .ok (.getfield 43, 3) := dk_180 0 43 (dk_at dksX6_readsCheckField_3 21 rfl rfl)
theorem dX6_readsCheckField_95 : decode cX6_readsCheckField 95 = .ok (.iload 5, 2) := dk_21 5 (dk_at dksX6_readsCheckField_4 0 rfl rfl)
theorem dX6_readsCheckField_97 : decode cX6_readsCheckField 97 = .ok (.aload_n 0, 1) := dk_42 (dk_at dksX6_readsCheckField_4 2 rfl rfl)
theorem dX6_readsCheckField_98 : decode cX6_readsCheckField 98 = .ok (.getfield 97, 3) := dk_180 0 97 (dk_at dksX6_readsCheckField_4 3 rfl rfl)
theorem dX6_readsCheckField_101 : decode cX6_readsCheckField 101 = .ok (.iload 4, 2) := dk_21 4 (dk_at dksX6_readsCheckField_4 6 rfl rfl)
theorem dX6_readsCheckField_103 : decode cX6_readsCheckField 103 = .ok (.iaload, 1) := dk_46 (dk_at dksX6_readsCheckField_4 8 rfl rfl)
theorem dX6_readsCheckField_104 : decode cX6_readsCheckField 104 = .ok (.iastore, 1) := dk_79 (dk_at dksX6_readsCheckField_4 9 rfl rfl)
theorem dX6_readsCheckField_105 : decode cX6_readsCheckField 105 = .ok (.aload_n 0, 1) := dk_42 (dk_at dksX6_readsCheckField_4 10 rfl rfl)
theorem dX6_readsCheckField_106 : decode cX6_readsCheckField 106 = .ok (.getfield 46, 3) := dk_180 0 46 (dk_at dksX6_readsCheckField_4 11 rfl rfl)
theorem dX6_readsCheckField_109 : decode cX6_readsCheckField 109 = .ok (.iload 5, 2) := dk_21 5 (dk_at dksX6_readsCheckField_4 14 rfl rfl)
theorem dX6_readsCheckField_111 : decode cX6_readsCheckField 111 = .ok (.iload_n 3, 1) := dk_29 (dk_at dksX6_readsCheckField_4 16 rfl rfl)
theorem dX6_readsCheckField_112 : decode cX6_readsCheckField 112 = .ok (.iastore, 1) := dk_79 (dk_at dksX6_readsCheckField_4 17 rfl rfl)
theorem dX6_readsCheckField_113 : decode cX6_readsCheckField 113 = .ok (.aload_n 0, 1) := dk_42 (dk_at dksX6_readsCheckField_4 18 rfl rfl)
theorem dX6_readsCheckField_114 : decode cX6_readsCheckField 114 = .ok (.getfield 49, 3) := dk_180 0 49 (dk_at dksX6_readsCheckField_4 19 rfl rfl)
theorem dX6_readsCheckField_117 : decode cX6_readsCheckField 117 = .ok (.iload 5, 2) := dk_21 5 (dk_at dksX6_readsCheckField_4 22 rfl rfl)
theorem dX6_readsCheckField_119 : decode cX6_readsCheckField 119 = .ok (.iload_n 2, 1) := dk_28 (dk_at dksX6_readsCheckField_5 0 rfl rfl)
theorem dX6_readsCheckField_120 : decode cX6_readsCheckField 120 = .ok (.iastore, 1) := dk_79 (dk_at dksX6_readsCheckField_5 1 rfl rfl)
theorem dX6_readsCheckField_121 : decode cX6_readsCheckField 121 = .ok (.aload_n 0, 1) := dk_42 (dk_at dksX6_readsCheckField_5 2 rfl rfl)
theorem dX6_readsCheckField_122 : decode cX6_readsCheckField 122 = .ok (.getfield 106, 3) := dk_180 0 106 (dk_at dksX6_readsCheckField_5 3 rfl rfl)
theorem dX6_readsCheckField_125 : decode cX6_readsCheckField 125 = .ok (.iload 4, 2) := dk_21 4 (dk_at dksX6_readsCheckField_5 6 rfl rfl)
theorem dX6_readsCheckField_127 : decode cX6_readsCheckField 127 = .ok (.iload 5, 2) := dk_21 5 (dk_at dksX6_readsCheckField_5 8 rfl rfl)
theorem dX6_readsCheckField_129 : decode cX6_readsCheckField 129 = .ok (.iastore, 1) := dk_79 (dk_at dksX6_readsCheckField_5 10 rfl rfl)
theorem dX6_readsCheckField_130 : decode cX6_readsCheckField 130 = .ok (.aload_n 0, 1) := dk_42 (dk_at dksX6_readsCheckField_5 11 rfl rfl)
theorem dX6_readsCheckField_131 : decode cX6_readsCheckField 131 = .ok (.dup, 1) := dk_89 (dk_at dksX6_readsCheckField_5 12 rfl rfl)
theorem dX6_readsCheckField_132 : decode cX6_readsCheckField 132 = .ok (.getfield 169, 3) := dk_180 0 169 (dk_at dksX6_readsCheckField_5 13 rfl rfl)
theorem dX6_readsCheckField_135 : decode cX6_readsCheckField 135 = .ok (.iconst 1, 1) := dk_4 (dk_at dksX6_readsCheckField_5 16 rfl rfl)
theorem dX6_readsCheckField_136 : decode cX6_readsCheckField 136 = .ok (.iadd, 1) := dk_96 (dk_at dksX6_readsCheckField_5 17 rfl rfl)
theorem dX6_readsCheckField_137 : decode cX6_readsCheckField 137 = .ok (.putfield 169, 3) := dk_181 0 169 (dk_at dksX6_readsCheckField_5 18 rfl rfl)
theorem dX6_readsCheckField_140 : decode cX6_readsCheckField 140 = .ok (.aload_n 0, 1) := dk_42 (dk_at dksX6_readsCheckField_5 21 rfl rfl)
theorem dX6_readsCheckField_141 : decode cX6_readsCheckField 141 = .ok (.invokevirtual 332, 3) := dk_182 1 76 (dk_at dksX6_readsCheckField_6 0 rfl rfl)
theorem dX6_readsCheckField_144 : decode cX6_readsCheckField 144 = .ok (.ireturn, 1) := dk_172 (dk_at dksX6_readsCheckField_6 3 rfl rfl)
abbrev cX6_image : ByteArray := prog_25_method_73_code
def yX6_image : MethodName := ⟨RX6, "image", "()I"⟩
def dkwX6_image_0 : List UInt8 := [42, 4, 181, 1, 111, 42, 3, 4, 182, 1, 54, 42, 3, 4, 182, 1, 91, 42, 180, 0, 118, 172]
abbrev dktX6_image_0 : List UInt8 := dkwX6_image_0 ++ []
theorem dksX6_image_0 : cX6_image.data.toList.drop 0 = dktX6_image_0 := by decide +kernel
theorem dX6_image_0 : decode cX6_image 0 = .ok (.aload_n 0, 1) := dk_42 (dk_at dksX6_image_0 0 rfl rfl)
theorem dX6_image_1 : decode cX6_image 1 = .ok (.iconst 1, 1) := dk_4 (dk_at dksX6_image_0 1 rfl rfl)
theorem dX6_image_2 : decode cX6_image 2 = .ok (.putfield 367, 3) := dk_181 1 111 (dk_at dksX6_image_0 2 rfl rfl)
theorem dX6_image_5 : decode cX6_image 5 = .ok (.aload_n 0, 1) := dk_42 (dk_at dksX6_image_0 5 rfl rfl)
theorem dX6_image_6 : decode cX6_image 6 = .ok (.iconst 0, 1) := dk_3 (dk_at dksX6_image_0 6 rfl rfl)
theorem dX6_image_7 : decode cX6_image 7 = .ok (.iconst 1, 1) := dk_4 (dk_at dksX6_image_0 7 rfl rfl)
theorem dX6_image_8 : decode cX6_image 8 = .ok (.invokevirtual 310, 3) := dk_182 1 54 (dk_at dksX6_image_0 8 rfl rfl)
theorem dX6_image_11 : decode cX6_image 11 = .ok (.aload_n 0, 1) := dk_42 (dk_at dksX6_image_0 11 rfl rfl)
theorem dX6_image_12 : decode cX6_image 12 = .ok (.iconst 0, 1) := dk_3 (dk_at dksX6_image_0 12 rfl rfl)
theorem dX6_image_13 : decode cX6_image 13 = .ok (.iconst 1, 1) := dk_4 (dk_at dksX6_image_0 13 rfl rfl)
theorem dX6_image_14 : decode cX6_image 14 = .ok (.invokevirtual 347, 3) := dk_182 1 91 (dk_at dksX6_image_0 14 rfl rfl)
theorem dX6_image_17 : decode cX6_image 17 = .ok (.aload_n 0, 1) := dk_42 (dk_at dksX6_image_0 17 rfl rfl)
theorem dX6_image_18 : decode cX6_image 18 = .ok (.getfield 118, 3) := dk_180 0 118 (dk_at dksX6_image_0 18 rfl rfl)
theorem dX6_image_21 : decode cX6_image 21 = .ok (.ireturn, 1) := dk_172 (dk_at dksX6_image_0 21 rfl rfl)
abbrev cX6_on : ByteArray := prog_25_method_74_code
def yX6_on : MethodName := ⟨RX6, "on", "()I"⟩
def dkwX6_on_1 : List UInt8 := [182, 1, 91, 42, 180, 0, 118, 172]
abbrev dktX6_on_1 : List UInt8 := dkwX6_on_1 ++ []
def dkwX6_on_0 : List UInt8 := [42, 180, 1, 111, 154, 0, 10, 42, 16, 253, 182, 0, 253, 172, 42, 3, 3, 182, 1, 54, 42, 3, 3]
abbrev dktX6_on_0 : List UInt8 := dkwX6_on_0 ++ dktX6_on_1
theorem dksX6_on_0 : cX6_on.data.toList.drop 0 = dktX6_on_0 := by decide +kernel
theorem dksX6_on_1 : cX6_on.data.toList.drop 23 = dktX6_on_1 := dk_seg dksX6_on_0 23 rfl rfl
theorem dX6_on_0 : decode cX6_on 0 = .ok (.aload_n 0, 1) := dk_42 (dk_at dksX6_on_0 0 rfl rfl)
theorem dX6_on_1 : decode cX6_on 1 = .ok (.getfield 367, 3) := dk_180 1 111 (dk_at dksX6_on_0 1 rfl rfl)
theorem dX6_on_4 : decode cX6_on 4 = .ok (.ifCond .ne 10, 3) := dk_154 0 10 (dk_at dksX6_on_0 4 rfl rfl)
theorem dX6_on_7 : decode cX6_on 7 = .ok (.aload_n 0, 1) := dk_42 (dk_at dksX6_on_0 7 rfl rfl)
theorem dX6_on_8 : decode cX6_on 8 = .ok (.bipush (-3), 2) := dk_16 253 (dk_at dksX6_on_0 8 rfl rfl)
theorem dX6_on_10 : decode cX6_on 10 = .ok (.invokevirtual 253, 3) := dk_182 0 253 (dk_at dksX6_on_0 10 rfl rfl)
theorem dX6_on_13 : decode cX6_on 13 = .ok (.ireturn, 1) := dk_172 (dk_at dksX6_on_0 13 rfl rfl)
theorem dX6_on_14 : decode cX6_on 14 = .ok (.aload_n 0, 1) := dk_42 (dk_at dksX6_on_0 14 rfl rfl)
theorem dX6_on_15 : decode cX6_on 15 = .ok (.iconst 0, 1) := dk_3 (dk_at dksX6_on_0 15 rfl rfl)
theorem dX6_on_16 : decode cX6_on 16 = .ok (.iconst 0, 1) := dk_3 (dk_at dksX6_on_0 16 rfl rfl)
theorem dX6_on_17 : decode cX6_on 17 = .ok (.invokevirtual 310, 3) := dk_182 1 54 (dk_at dksX6_on_0 17 rfl rfl)
theorem dX6_on_20 : decode cX6_on 20 = .ok (.aload_n 0, 1) := dk_42 (dk_at dksX6_on_0 20 rfl rfl)
theorem dX6_on_21 : decode cX6_on 21 = .ok (.iconst 0, 1) := dk_3 (dk_at dksX6_on_0 21 rfl rfl)
theorem dX6_on_22 : decode cX6_on 22 = .ok (.iconst 0, 1) := dk_3 (dk_at dksX6_on_0 22 rfl rfl)
theorem dX6_on_23 : decode cX6_on 23 = .ok (.invokevirtual 347, 3) := dk_182 1 91 (dk_at dksX6_on_1 0 rfl rfl)
theorem dX6_on_26 : decode cX6_on 26 = .ok (.aload_n 0, 1) := dk_42 (dk_at dksX6_on_1 3 rfl rfl)
theorem dX6_on_27 : decode cX6_on 27 = .ok (.getfield 118, 3) := dk_180 0 118 (dk_at dksX6_on_1 4 rfl rfl)
theorem dX6_on_30 : decode cX6_on 30 = .ok (.ireturn, 1) := dk_172 (dk_at dksX6_on_1 7 rfl rfl)
abbrev cX6_part : ByteArray := prog_25_method_75_code
def yX6_part : MethodName := ⟨RX6, "part", "(II)I"⟩
def dkwX6_part_3 : List UInt8 := [180, 0, 16, 29, 46, 172, 42, 180, 0, 22, 29, 46, 172, 29, 172, 42, 16, 254, 182, 0, 253, 172]
abbrev dktX6_part_3 : List UInt8 := dkwX6_part_3 ++ []
def dkwX6_part_2 : List UInt8 := [42, 180, 0, 13, 29, 46, 172, 42, 180, 0, 13, 29, 46, 4, 160, 0, 7, 3, 167, 0, 9, 42]
abbrev dktX6_part_2 : List UInt8 := dkwX6_part_2 ++ dktX6_part_3
def dkwX6_part_1 : List UInt8 := [170, 0, 0, 0, 0, 0, 68, 0, 0, 0, 0, 0, 0, 0, 3, 0, 0, 0, 31, 0, 0, 0, 38, 0, 0, 0, 59, 0, 0, 0, 66]
abbrev dktX6_part_1 : List UInt8 := dkwX6_part_1 ++ dktX6_part_2
def dkwX6_part_0 : List UInt8 := [42, 27, 182, 0, 146, 62, 29, 156, 0, 9, 42, 2, 182, 0, 253, 172, 28]
abbrev dktX6_part_0 : List UInt8 := dkwX6_part_0 ++ dktX6_part_1
theorem dksX6_part_0 : cX6_part.data.toList.drop 0 = dktX6_part_0 := by decide +kernel
theorem dksX6_part_1 : cX6_part.data.toList.drop 17 = dktX6_part_1 := dk_seg dksX6_part_0 17 rfl rfl
theorem dksX6_part_2 : cX6_part.data.toList.drop 48 = dktX6_part_2 := dk_seg dksX6_part_1 31 rfl rfl
theorem dksX6_part_3 : cX6_part.data.toList.drop 70 = dktX6_part_3 := dk_seg dksX6_part_2 22 rfl rfl
theorem dX6_part_0 : decode cX6_part 0 = .ok (.aload_n 0, 1) := dk_42 (dk_at dksX6_part_0 0 rfl rfl)
theorem dX6_part_1 : decode cX6_part 1 = .ok (.iload_n 1, 1) := dk_27 (dk_at dksX6_part_0 1 rfl rfl)
theorem dX6_part_2 : decode cX6_part 2 = .ok (.invokevirtual 146, 3) := dk_182 0 146 (dk_at dksX6_part_0 2 rfl rfl)
theorem dX6_part_5 : decode cX6_part 5 = .ok (.istore_n 3, 1) := dk_62 (dk_at dksX6_part_0 5 rfl rfl)
theorem dX6_part_6 : decode cX6_part 6 = .ok (.iload_n 3, 1) := dk_29 (dk_at dksX6_part_0 6 rfl rfl)
theorem dX6_part_7 : decode cX6_part 7 = .ok (.ifCond .ge 9, 3) := dk_156 0 9 (dk_at dksX6_part_0 7 rfl rfl)
theorem dX6_part_10 : decode cX6_part 10 = .ok (.aload_n 0, 1) := dk_42 (dk_at dksX6_part_0 10 rfl rfl)
theorem dX6_part_11 : decode cX6_part 11 = .ok (.iconst (-1), 1) := dk_2 (dk_at dksX6_part_0 11 rfl rfl)
theorem dX6_part_12 : decode cX6_part 12 = .ok (.invokevirtual 253, 3) := dk_182 0 253 (dk_at dksX6_part_0 12 rfl rfl)
theorem dX6_part_15 : decode cX6_part 15 = .ok (.ireturn, 1) := dk_172 (dk_at dksX6_part_0 15 rfl rfl)
theorem dX6_part_16 : decode cX6_part 16 = .ok (.iload_n 2, 1) := dk_28 (dk_at dksX6_part_0 16 rfl rfl)
theorem dX6_part_17 : decode cX6_part 17 = .ok (.tableswitch 68 0 3 #[31, 38, 59, 66], 31) := by decide +kernel
theorem dX6_part_48 : decode cX6_part 48 = .ok (.aload_n 0, 1) := dk_42 (dk_at dksX6_part_2 0 rfl rfl)
theorem dX6_part_49 : decode cX6_part 49 = .ok (.getfield 13, 3) := dk_180 0 13 (dk_at dksX6_part_2 1 rfl rfl)
theorem dX6_part_52 : decode cX6_part 52 = .ok (.iload_n 3, 1) := dk_29 (dk_at dksX6_part_2 4 rfl rfl)
theorem dX6_part_53 : decode cX6_part 53 = .ok (.iaload, 1) := dk_46 (dk_at dksX6_part_2 5 rfl rfl)
theorem dX6_part_54 : decode cX6_part 54 = .ok (.ireturn, 1) := dk_172 (dk_at dksX6_part_2 6 rfl rfl)
theorem dX6_part_55 : decode cX6_part 55 = .ok (.aload_n 0, 1) := dk_42 (dk_at dksX6_part_2 7 rfl rfl)
theorem dX6_part_56 : decode cX6_part 56 = .ok (.getfield 13, 3) := dk_180 0 13 (dk_at dksX6_part_2 8 rfl rfl)
theorem dX6_part_59 : decode cX6_part 59 = .ok (.iload_n 3, 1) := dk_29 (dk_at dksX6_part_2 11 rfl rfl)
theorem dX6_part_60 : decode cX6_part 60 = .ok (.iaload, 1) := dk_46 (dk_at dksX6_part_2 12 rfl rfl)
theorem dX6_part_61 : decode cX6_part 61 = .ok (.iconst 1, 1) := dk_4 (dk_at dksX6_part_2 13 rfl rfl)
theorem dX6_part_62 : decode cX6_part 62 = .ok (.if_icmp .ne 7, 3) := dk_160 0 7 (dk_at dksX6_part_2 14 rfl rfl)
theorem dX6_part_65 : decode cX6_part 65 = .ok (.iconst 0, 1) := dk_3 (dk_at dksX6_part_2 17 rfl rfl)
theorem dX6_part_66 : decode cX6_part 66 = .ok (.goto 9, 3) := dk_167 0 9 (dk_at dksX6_part_2 18 rfl rfl)
theorem dX6_part_69 : decode cX6_part 69 = .ok (.aload_n 0, 1) := dk_42 (dk_at dksX6_part_2 21 rfl rfl)
theorem dX6_part_70 : decode cX6_part 70 = .ok (.getfield 16, 3) := dk_180 0 16 (dk_at dksX6_part_3 0 rfl rfl)
theorem dX6_part_73 : decode cX6_part 73 = .ok (.iload_n 3, 1) := dk_29 (dk_at dksX6_part_3 3 rfl rfl)
theorem dX6_part_74 : decode cX6_part 74 = .ok (.iaload, 1) := dk_46 (dk_at dksX6_part_3 4 rfl rfl)
theorem dX6_part_75 : decode cX6_part 75 = .ok (.ireturn, 1) := dk_172 (dk_at dksX6_part_3 5 rfl rfl)
theorem dX6_part_76 : decode cX6_part 76 = .ok (.aload_n 0, 1) := dk_42 (dk_at dksX6_part_3 6 rfl rfl)
theorem dX6_part_77 : decode cX6_part 77 = .ok (.getfield 22, 3) := dk_180 0 22 (dk_at dksX6_part_3 7 rfl rfl)
theorem dX6_part_80 : decode cX6_part 80 = .ok (.iload_n 3, 1) := dk_29 (dk_at dksX6_part_3 10 rfl rfl)
theorem dX6_part_81 : decode cX6_part 81 = .ok (.iaload, 1) := dk_46 (dk_at dksX6_part_3 11 rfl rfl)
theorem dX6_part_82 : decode cX6_part 82 = .ok (.ireturn, 1) := dk_172 (dk_at dksX6_part_3 12 rfl rfl)
theorem dX6_part_83 : decode cX6_part 83 = .ok (.iload_n 3, 1) := dk_29 (dk_at dksX6_part_3 13 rfl rfl)
theorem dX6_part_84 : decode cX6_part 84 = .ok (.ireturn, 1) := dk_172 (dk_at dksX6_part_3 14 rfl rfl)
theorem dX6_part_85 : decode cX6_part 85 = .ok (.aload_n 0, 1) := dk_42 (dk_at dksX6_part_3 15 rfl rfl)
theorem dX6_part_86 : decode cX6_part 86 = .ok (.bipush (-2), 2) := dk_16 254 (dk_at dksX6_part_3 16 rfl rfl)
theorem dX6_part_88 : decode cX6_part 88 = .ok (.invokevirtual 253, 3) := dk_182 0 253 (dk_at dksX6_part_3 18 rfl rfl)
theorem dX6_part_91 : decode cX6_part 91 = .ok (.ireturn, 1) := dk_172 (dk_at dksX6_part_3 21 rfl rfl)
abbrev cX6_partAt : ByteArray := prog_25_method_10_code
def yX6_partAt : MethodName := ⟨RX6, "partAt", "(I)I"⟩
def dkwX6_partAt_1 : List UInt8 := [132, 2, 1, 167, 255, 233, 16, 247, 172]
abbrev dktX6_partAt_1 : List UInt8 := dkwX6_partAt_1 ++ []
def dkwX6_partAt_0 : List UInt8 := [3, 61, 28, 42, 180, 0, 118, 162, 0, 21, 42, 180, 0, 25, 28, 46, 27, 160, 0, 5, 28, 172]
abbrev dktX6_partAt_0 : List UInt8 := dkwX6_partAt_0 ++ dktX6_partAt_1
theorem dksX6_partAt_0 : cX6_partAt.data.toList.drop 0 = dktX6_partAt_0 := by decide +kernel
theorem dksX6_partAt_1 : cX6_partAt.data.toList.drop 22 = dktX6_partAt_1 := dk_seg dksX6_partAt_0 22 rfl rfl
theorem dX6_partAt_0 : decode cX6_partAt 0 = .ok (.iconst 0, 1) := dk_3 (dk_at dksX6_partAt_0 0 rfl rfl)
theorem dX6_partAt_1 : decode cX6_partAt 1 = .ok (.istore_n 2, 1) := dk_61 (dk_at dksX6_partAt_0 1 rfl rfl)
theorem dX6_partAt_2 : decode cX6_partAt 2 = .ok (.iload_n 2, 1) := dk_28 (dk_at dksX6_partAt_0 2 rfl rfl)
theorem dX6_partAt_3 : decode cX6_partAt 3 = .ok (.aload_n 0, 1) := dk_42 (dk_at dksX6_partAt_0 3 rfl rfl)
theorem dX6_partAt_4 : decode cX6_partAt 4 = .ok (.getfield 118, 3) := dk_180 0 118 (dk_at dksX6_partAt_0 4 rfl rfl)
theorem dX6_partAt_7 : decode cX6_partAt 7 = .ok (.if_icmp .ge 21, 3) := dk_162 0 21 (dk_at dksX6_partAt_0 7 rfl rfl)
theorem dX6_partAt_10 : decode cX6_partAt 10 = .ok (.aload_n 0, 1) := dk_42 (dk_at dksX6_partAt_0 10 rfl rfl)
theorem dX6_partAt_11 : decode cX6_partAt 11 = .ok (.getfield 25, 3) := dk_180 0 25 (dk_at dksX6_partAt_0 11 rfl rfl)
theorem dX6_partAt_14 : decode cX6_partAt 14 = .ok (.iload_n 2, 1) := dk_28 (dk_at dksX6_partAt_0 14 rfl rfl)
theorem dX6_partAt_15 : decode cX6_partAt 15 = .ok (.iaload, 1) := dk_46 (dk_at dksX6_partAt_0 15 rfl rfl)
theorem dX6_partAt_16 : decode cX6_partAt 16 = .ok (.iload_n 1, 1) := dk_27 (dk_at dksX6_partAt_0 16 rfl rfl)
theorem dX6_partAt_17 : decode cX6_partAt 17 = .ok (.if_icmp .ne 5, 3) := dk_160 0 5 (dk_at dksX6_partAt_0 17 rfl rfl)
theorem dX6_partAt_20 : decode cX6_partAt 20 = .ok (.iload_n 2, 1) := dk_28 (dk_at dksX6_partAt_0 20 rfl rfl)
theorem dX6_partAt_21 : decode cX6_partAt 21 = .ok (.ireturn, 1) := dk_172 (dk_at dksX6_partAt_0 21 rfl rfl)
theorem dX6_partAt_22 : decode cX6_partAt 22 = .ok (.iinc 2 1, 3) := dk_132 2 1 (dk_at dksX6_partAt_1 0 rfl rfl)
theorem dX6_partAt_25 : decode cX6_partAt 25 = .ok (.goto (-23), 3) := dk_167 255 233 (dk_at dksX6_partAt_1 3 rfl rfl)
theorem dX6_partAt_28 : decode cX6_partAt 28 = .ok (.bipush (-9), 2) := dk_16 247 (dk_at dksX6_partAt_1 6 rfl rfl)
theorem dX6_partAt_30 : decode cX6_partAt 30 = .ok (.ireturn, 1) := dk_172 (dk_at dksX6_partAt_1 8 rfl rfl)
abbrev cX6_path : ByteArray := prog_25_method_76_code
def yX6_path : MethodName := ⟨RX6, "path", "(I)I"⟩
def dkwX6_path_1 : List UInt8 := [2, 182, 0, 253, 172]
abbrev dktX6_path_1 : List UInt8 := dkwX6_path_1 ++ []
def dkwX6_path_0 : List UInt8 := [27, 3, 42, 180, 0, 118, 4, 100, 184, 0, 213, 153, 0, 12, 42, 180, 0, 25, 27, 46, 167, 0, 8, 42]
abbrev dktX6_path_0 : List UInt8 := dkwX6_path_0 ++ dktX6_path_1
theorem dksX6_path_0 : cX6_path.data.toList.drop 0 = dktX6_path_0 := by decide +kernel
theorem dksX6_path_1 : cX6_path.data.toList.drop 24 = dktX6_path_1 := dk_seg dksX6_path_0 24 rfl rfl
theorem dX6_path_0 : decode cX6_path 0 = .ok (.iload_n 1, 1) := dk_27 (dk_at dksX6_path_0 0 rfl rfl)
theorem dX6_path_1 : decode cX6_path 1 = .ok (.iconst 0, 1) := dk_3 (dk_at dksX6_path_0 1 rfl rfl)
theorem dX6_path_2 : decode cX6_path 2 = .ok (.aload_n 0, 1) := dk_42 (dk_at dksX6_path_0 2 rfl rfl)
theorem dX6_path_3 : decode cX6_path 3 = .ok (.getfield 118, 3) := dk_180 0 118 (dk_at dksX6_path_0 3 rfl rfl)
theorem dX6_path_6 : decode cX6_path 6 = .ok (.iconst 1, 1) := dk_4 (dk_at dksX6_path_0 6 rfl rfl)
theorem dX6_path_7 : decode cX6_path 7 = .ok (.isub, 1) := dk_100 (dk_at dksX6_path_0 7 rfl rfl)
theorem dX6_path_8 : decode cX6_path 8 = .ok (.invokestatic 213, 3) := dk_184 0 213 (dk_at dksX6_path_0 8 rfl rfl)
theorem dX6_path_11 : decode cX6_path 11 = .ok (.ifCond .eq 12, 3) := dk_153 0 12 (dk_at dksX6_path_0 11 rfl rfl)
theorem dX6_path_14 : decode cX6_path 14 = .ok (.aload_n 0, 1) := dk_42 (dk_at dksX6_path_0 14 rfl rfl)
theorem dX6_path_15 : decode cX6_path 15 = .ok (.getfield 25, 3) := dk_180 0 25 (dk_at dksX6_path_0 15 rfl rfl)
theorem dX6_path_18 : decode cX6_path 18 = .ok (.iload_n 1, 1) := dk_27 (dk_at dksX6_path_0 18 rfl rfl)
theorem dX6_path_19 : decode cX6_path 19 = .ok (.iaload, 1) := dk_46 (dk_at dksX6_path_0 19 rfl rfl)
theorem dX6_path_20 : decode cX6_path 20 = .ok (.goto 8, 3) := dk_167 0 8 (dk_at dksX6_path_0 20 rfl rfl)
theorem dX6_path_23 : decode cX6_path 23 = .ok (.aload_n 0, 1) := dk_42 (dk_at dksX6_path_0 23 rfl rfl)
theorem dX6_path_24 : decode cX6_path 24 = .ok (.iconst (-1), 1) := dk_2 (dk_at dksX6_path_1 0 rfl rfl)
theorem dX6_path_25 : decode cX6_path 25 = .ok (.invokevirtual 253, 3) := dk_182 0 253 (dk_at dksX6_path_1 1 rfl rfl)
theorem dX6_path_28 : decode cX6_path 28 = .ok (.ireturn, 1) := dk_172 (dk_at dksX6_path_1 4 rfl rfl)
abbrev cX6_puts : ByteArray := prog_25_method_77_code
def yX6_puts : MethodName := ⟨RX6, "puts", "(II)I"⟩
def dkwX6_puts_2 : List UInt8 := [182, 1, 114, 21, 5, 172]
abbrev dktX6_puts_2 : List UInt8 := dkwX6_puts_2 ++ []
def dkwX6_puts_1 : List UInt8 := [21, 4, 153, 0, 10, 42, 21, 4, 182, 0, 253, 172, 42, 180, 0, 22, 29, 46, 54, 5, 42, 29, 3, 28]
abbrev dktX6_puts_1 : List UInt8 := dkwX6_puts_1 ++ dktX6_puts_2
def dkwX6_puts_0 : List UInt8 := [42, 27, 182, 0, 146, 62, 29, 156, 0, 7, 2, 167, 0, 10, 28, 3, 16, 99, 184, 0, 246, 54, 4]
abbrev dktX6_puts_0 : List UInt8 := dkwX6_puts_0 ++ dktX6_puts_1
theorem dksX6_puts_0 : cX6_puts.data.toList.drop 0 = dktX6_puts_0 := by decide +kernel
theorem dksX6_puts_1 : cX6_puts.data.toList.drop 23 = dktX6_puts_1 := dk_seg dksX6_puts_0 23 rfl rfl
theorem dksX6_puts_2 : cX6_puts.data.toList.drop 47 = dktX6_puts_2 := dk_seg dksX6_puts_1 24 rfl rfl
theorem dX6_puts_0 : decode cX6_puts 0 = .ok (.aload_n 0, 1) := dk_42 (dk_at dksX6_puts_0 0 rfl rfl)
theorem dX6_puts_1 : decode cX6_puts 1 = .ok (.iload_n 1, 1) := dk_27 (dk_at dksX6_puts_0 1 rfl rfl)
theorem dX6_puts_2 : decode cX6_puts 2 = .ok (.invokevirtual 146, 3) := dk_182 0 146 (dk_at dksX6_puts_0 2 rfl rfl)
theorem dX6_puts_5 : decode cX6_puts 5 = .ok (.istore_n 3, 1) := dk_62 (dk_at dksX6_puts_0 5 rfl rfl)
theorem dX6_puts_6 : decode cX6_puts 6 = .ok (.iload_n 3, 1) := dk_29 (dk_at dksX6_puts_0 6 rfl rfl)
theorem dX6_puts_7 : decode cX6_puts 7 = .ok (.ifCond .ge 7, 3) := dk_156 0 7 (dk_at dksX6_puts_0 7 rfl rfl)
theorem dX6_puts_10 : decode cX6_puts 10 = .ok (.iconst (-1), 1) := dk_2 (dk_at dksX6_puts_0 10 rfl rfl)
theorem dX6_puts_11 : decode cX6_puts 11 = .ok (.goto 10, 3) := dk_167 0 10 (dk_at dksX6_puts_0 11 rfl rfl)
theorem dX6_puts_14 : decode cX6_puts 14 = .ok (.iload_n 2, 1) := dk_28 (dk_at dksX6_puts_0 14 rfl rfl)
theorem dX6_puts_15 : decode cX6_puts 15 = .ok (.iconst 0, 1) := dk_3 (dk_at dksX6_puts_0 15 rfl rfl)
theorem dX6_puts_16 : decode cX6_puts 16 = .ok (.bipush 99, 2) := dk_16 99 (dk_at dksX6_puts_0 16 rfl rfl)
theorem dX6_puts_18 : decode cX6_puts 18 = .ok (.invokestatic 246, 3) := dk_184 0 246 (dk_at dksX6_puts_0 18 rfl rfl)
theorem dX6_puts_21 : decode cX6_puts 21 = .ok (.istore 4, 2) := dk_54 4 (dk_at dksX6_puts_0 21 rfl rfl)
theorem dX6_puts_23 : decode cX6_puts 23 = .ok (.iload 4, 2) := dk_21 4 (dk_at dksX6_puts_1 0 rfl rfl)
theorem dX6_puts_25 : decode cX6_puts 25 = .ok (.ifCond .eq 10, 3) := dk_153 0 10 (dk_at dksX6_puts_1 2 rfl rfl)
theorem dX6_puts_28 : decode cX6_puts 28 = .ok (.aload_n 0, 1) := dk_42 (dk_at dksX6_puts_1 5 rfl rfl)
theorem dX6_puts_29 : decode cX6_puts 29 = .ok (.iload 4, 2) := dk_21 4 (dk_at dksX6_puts_1 6 rfl rfl)
theorem dX6_puts_31 : decode cX6_puts 31 = .ok (.invokevirtual 253, 3) := dk_182 0 253 (dk_at dksX6_puts_1 8 rfl rfl)
theorem dX6_puts_34 : decode cX6_puts 34 = .ok (.ireturn, 1) := dk_172 (dk_at dksX6_puts_1 11 rfl rfl)
theorem dX6_puts_35 : decode cX6_puts 35 = .ok (.aload_n 0, 1) := dk_42 (dk_at dksX6_puts_1 12 rfl rfl)
theorem dX6_puts_36 : decode cX6_puts 36 = .ok (.getfield 22, 3) := dk_180 0 22 (dk_at dksX6_puts_1 13 rfl rfl)
theorem dX6_puts_39 : decode cX6_puts 39 = .ok (.iload_n 3, 1) := dk_29 (dk_at dksX6_puts_1 16 rfl rfl)
theorem dX6_puts_40 : decode cX6_puts 40 = .ok (.iaload, 1) := dk_46 (dk_at dksX6_puts_1 17 rfl rfl)
theorem dX6_puts_41 : decode cX6_puts 41 = .ok (.istore 5, 2) := dk_54 5 (dk_at dksX6_puts_1 18 rfl rfl)
theorem dX6_puts_43 : decode cX6_puts 43 = .ok (.aload_n 0, 1) := dk_42 (dk_at dksX6_puts_1 20 rfl rfl)
theorem dX6_puts_44 : decode cX6_puts 44 = .ok (.iload_n 3, 1) := dk_29 (dk_at dksX6_puts_1 21 rfl rfl)
theorem dX6_puts_45 : decode cX6_puts 45 = .ok (.iconst 0, 1) := dk_3 (dk_at dksX6_puts_1 22 rfl rfl)
theorem dX6_puts_46 : decode cX6_puts 46 = .ok (.iload_n 2, 1) := dk_28 (dk_at dksX6_puts_1 23 rfl rfl)
theorem dX6_puts_47 : decode cX6_puts 47 = .ok (.invokevirtual 370, 3) := dk_182 1 114 (dk_at dksX6_puts_2 0 rfl rfl)
theorem dX6_puts_50 : decode cX6_puts 50 = .ok (.iload 5, 2) := dk_21 5 (dk_at dksX6_puts_2 3 rfl rfl)
theorem dX6_puts_52 : decode cX6_puts 52 = .ok (.ireturn, 1) := dk_172 (dk_at dksX6_puts_2 5 rfl rfl)
abbrev cX6_putsAt : ByteArray := prog_25_method_14_code
def yX6_putsAt : MethodName := ⟨RX6, "putsAt", "(III)V"⟩
def dkwX6_putsAt_1 : List UInt8 := [180, 0, 16, 27, 29, 79, 42, 182, 0, 125, 177]
abbrev dktX6_putsAt_1 : List UInt8 := dkwX6_putsAt_1 ++ []
def dkwX6_putsAt_0 : List UInt8 := [42, 27, 4, 96, 42, 180, 0, 22, 27, 46, 4, 100, 182, 0, 142, 42, 180, 0, 13, 27, 28, 79, 42]
abbrev dktX6_putsAt_0 : List UInt8 := dkwX6_putsAt_0 ++ dktX6_putsAt_1
theorem dksX6_putsAt_0 : cX6_putsAt.data.toList.drop 0 = dktX6_putsAt_0 := by decide +kernel
theorem dksX6_putsAt_1 : cX6_putsAt.data.toList.drop 23 = dktX6_putsAt_1 := dk_seg dksX6_putsAt_0 23 rfl rfl
theorem dX6_putsAt_0 : decode cX6_putsAt 0 = .ok (.aload_n 0, 1) := dk_42 (dk_at dksX6_putsAt_0 0 rfl rfl)
theorem dX6_putsAt_1 : decode cX6_putsAt 1 = .ok (.iload_n 1, 1) := dk_27 (dk_at dksX6_putsAt_0 1 rfl rfl)
theorem dX6_putsAt_2 : decode cX6_putsAt 2 = .ok (.iconst 1, 1) := dk_4 (dk_at dksX6_putsAt_0 2 rfl rfl)
theorem dX6_putsAt_3 : decode cX6_putsAt 3 = .ok (.iadd, 1) := dk_96 (dk_at dksX6_putsAt_0 3 rfl rfl)
theorem dX6_putsAt_4 : decode cX6_putsAt 4 = .ok (.aload_n 0, 1) := dk_42 (dk_at dksX6_putsAt_0 4 rfl rfl)
theorem dX6_putsAt_5 : decode cX6_putsAt 5 = .ok (.getfield 22, 3) := dk_180 0 22 (dk_at dksX6_putsAt_0 5 rfl rfl)
theorem dX6_putsAt_8 : decode cX6_putsAt 8 = .ok (.iload_n 1, 1) := dk_27 (dk_at dksX6_putsAt_0 8 rfl rfl)
theorem dX6_putsAt_9 : decode cX6_putsAt 9 = .ok (.iaload, 1) := dk_46 (dk_at dksX6_putsAt_0 9 rfl rfl)
theorem dX6_putsAt_10 : decode cX6_putsAt 10 = .ok (.iconst 1, 1) := dk_4 (dk_at dksX6_putsAt_0 10 rfl rfl)
theorem dX6_putsAt_11 : decode cX6_putsAt 11 = .ok (.isub, 1) := dk_100 (dk_at dksX6_putsAt_0 11 rfl rfl)
theorem dX6_putsAt_12 : decode cX6_putsAt 12 = .ok (.invokevirtual 142, 3) := dk_182 0 142 (dk_at dksX6_putsAt_0 12 rfl rfl)
theorem dX6_putsAt_15 : decode cX6_putsAt 15 = .ok (.aload_n 0, 1) := dk_42 (dk_at dksX6_putsAt_0 15 rfl rfl)
theorem dX6_putsAt_16 : decode cX6_putsAt 16 = .ok (.getfield 13, 3) := dk_180 0 13 (dk_at dksX6_putsAt_0 16 rfl rfl)
theorem dX6_putsAt_19 : decode cX6_putsAt 19 = .ok (.iload_n 1, 1) := dk_27 (dk_at dksX6_putsAt_0 19 rfl rfl)
theorem dX6_putsAt_20 : decode cX6_putsAt 20 = .ok (.iload_n 2, 1) := dk_28 (dk_at dksX6_putsAt_0 20 rfl rfl)
theorem dX6_putsAt_21 : decode cX6_putsAt 21 = .ok (.iastore, 1) := dk_79 (dk_at dksX6_putsAt_0 21 rfl rfl)
theorem dX6_putsAt_22 : decode cX6_putsAt 22 = .ok (.aload_n 0, 1) := dk_42 (dk_at dksX6_putsAt_0 22 rfl rfl)
theorem dX6_putsAt_23 : decode cX6_putsAt 23 = .ok (.getfield 16, 3) := dk_180 0 16 (dk_at dksX6_putsAt_1 0 rfl rfl)
theorem dX6_putsAt_26 : decode cX6_putsAt 26 = .ok (.iload_n 1, 1) := dk_27 (dk_at dksX6_putsAt_1 3 rfl rfl)
theorem dX6_putsAt_27 : decode cX6_putsAt 27 = .ok (.iload_n 3, 1) := dk_29 (dk_at dksX6_putsAt_1 4 rfl rfl)
theorem dX6_putsAt_28 : decode cX6_putsAt 28 = .ok (.iastore, 1) := dk_79 (dk_at dksX6_putsAt_1 5 rfl rfl)
theorem dX6_putsAt_29 : decode cX6_putsAt 29 = .ok (.aload_n 0, 1) := dk_42 (dk_at dksX6_putsAt_1 6 rfl rfl)
theorem dX6_putsAt_30 : decode cX6_putsAt 30 = .ok (.invokevirtual 125, 3) := dk_182 0 125 (dk_at dksX6_putsAt_1 7 rfl rfl)
theorem dX6_putsAt_33 : decode cX6_putsAt 33 = .ok (.return_, 1) := dk_177 (dk_at dksX6_putsAt_1 10 rfl rfl)
abbrev cX6_takesOut : ByteArray := prog_25_method_13_code
def yX6_takesOut : MethodName := ⟨RX6, "takesOut", "(II)V"⟩
def dkwX6_takesOut_2 : List UInt8 := [42, 180, 0, 19, 29, 42, 180, 0, 19, 29, 28, 96, 46, 79, 132, 3, 1, 167, 255, 203, 177]
abbrev dktX6_takesOut_2 : List UInt8 := dkwX6_takesOut_2 ++ []
def dkwX6_takesOut_1 : List UInt8 := [29, 42, 180, 0, 13, 29, 28, 96, 46, 79, 42, 180, 0, 16, 29, 42, 180, 0, 16, 29, 28, 96, 46, 79]
abbrev dktX6_takesOut_1 : List UInt8 := dkwX6_takesOut_1 ++ dktX6_takesOut_2
def dkwX6_takesOut_0 : List UInt8 := [42, 89, 180, 0, 118, 28, 100, 181, 0, 118, 27, 62, 29, 42, 180, 0, 118, 162, 0, 51, 42, 180, 0, 13]
abbrev dktX6_takesOut_0 : List UInt8 := dkwX6_takesOut_0 ++ dktX6_takesOut_1
theorem dksX6_takesOut_0 : cX6_takesOut.data.toList.drop 0 = dktX6_takesOut_0 := by decide +kernel
theorem dksX6_takesOut_1 : cX6_takesOut.data.toList.drop 24 = dktX6_takesOut_1 := dk_seg dksX6_takesOut_0 24 rfl rfl
theorem dksX6_takesOut_2 : cX6_takesOut.data.toList.drop 48 = dktX6_takesOut_2 := dk_seg dksX6_takesOut_1 24 rfl rfl
theorem dX6_takesOut_0 : decode cX6_takesOut 0 = .ok (.aload_n 0, 1) := dk_42 (dk_at dksX6_takesOut_0 0 rfl rfl)
theorem dX6_takesOut_1 : decode cX6_takesOut 1 = .ok (.dup, 1) := dk_89 (dk_at dksX6_takesOut_0 1 rfl rfl)
theorem dX6_takesOut_2 : decode cX6_takesOut 2 = .ok (.getfield 118, 3) := dk_180 0 118 (dk_at dksX6_takesOut_0 2 rfl rfl)
theorem dX6_takesOut_5 : decode cX6_takesOut 5 = .ok (.iload_n 2, 1) := dk_28 (dk_at dksX6_takesOut_0 5 rfl rfl)
theorem dX6_takesOut_6 : decode cX6_takesOut 6 = .ok (.isub, 1) := dk_100 (dk_at dksX6_takesOut_0 6 rfl rfl)
theorem dX6_takesOut_7 : decode cX6_takesOut 7 = .ok (.putfield 118, 3) := dk_181 0 118 (dk_at dksX6_takesOut_0 7 rfl rfl)
theorem dX6_takesOut_10 : decode cX6_takesOut 10 = .ok (.iload_n 1, 1) := dk_27 (dk_at dksX6_takesOut_0 10 rfl rfl)
theorem dX6_takesOut_11 : decode cX6_takesOut 11 = .ok (.istore_n 3, 1) := dk_62 (dk_at dksX6_takesOut_0 11 rfl rfl)
theorem dX6_takesOut_12 : decode cX6_takesOut 12 = .ok (.iload_n 3, 1) := dk_29 (dk_at dksX6_takesOut_0 12 rfl rfl)
theorem dX6_takesOut_13 : decode cX6_takesOut 13 = .ok (.aload_n 0, 1) := dk_42 (dk_at dksX6_takesOut_0 13 rfl rfl)
theorem dX6_takesOut_14 : decode cX6_takesOut 14 = .ok (.getfield 118, 3) := dk_180 0 118 (dk_at dksX6_takesOut_0 14 rfl rfl)
theorem dX6_takesOut_17 : decode cX6_takesOut 17 = .ok (.if_icmp .ge 51, 3) := dk_162 0 51 (dk_at dksX6_takesOut_0 17 rfl rfl)
theorem dX6_takesOut_20 : decode cX6_takesOut 20 = .ok (.aload_n 0, 1) := dk_42 (dk_at dksX6_takesOut_0 20 rfl rfl)
theorem dX6_takesOut_21 : decode cX6_takesOut 21 = .ok (.getfield 13, 3) := dk_180 0 13 (dk_at dksX6_takesOut_0 21 rfl rfl)
theorem dX6_takesOut_24 : decode cX6_takesOut 24 = .ok (.iload_n 3, 1) := dk_29 (dk_at dksX6_takesOut_1 0 rfl rfl)
theorem dX6_takesOut_25 : decode cX6_takesOut 25 = .ok (.aload_n 0, 1) := dk_42 (dk_at dksX6_takesOut_1 1 rfl rfl)
theorem dX6_takesOut_26 : decode cX6_takesOut 26 = .ok (.getfield 13, 3) := dk_180 0 13 (dk_at dksX6_takesOut_1 2 rfl rfl)
theorem dX6_takesOut_29 : decode cX6_takesOut 29 = .ok (.iload_n 3, 1) := dk_29 (dk_at dksX6_takesOut_1 5 rfl rfl)
theorem dX6_takesOut_30 : decode cX6_takesOut 30 = .ok (.iload_n 2, 1) := dk_28 (dk_at dksX6_takesOut_1 6 rfl rfl)
theorem dX6_takesOut_31 : decode cX6_takesOut 31 = .ok (.iadd, 1) := dk_96 (dk_at dksX6_takesOut_1 7 rfl rfl)
theorem dX6_takesOut_32 : decode cX6_takesOut 32 = .ok (.iaload, 1) := dk_46 (dk_at dksX6_takesOut_1 8 rfl rfl)
theorem dX6_takesOut_33 : decode cX6_takesOut 33 = .ok (.iastore, 1) := dk_79 (dk_at dksX6_takesOut_1 9 rfl rfl)
theorem dX6_takesOut_34 : decode cX6_takesOut 34 = .ok (.aload_n 0, 1) := dk_42 (dk_at dksX6_takesOut_1 10 rfl rfl)
theorem dX6_takesOut_35 : decode cX6_takesOut 35 = .ok (.getfield 16, 3) := dk_180 0 16 (dk_at dksX6_takesOut_1 11 rfl rfl)
theorem dX6_takesOut_38 : decode cX6_takesOut 38 = .ok (.iload_n 3, 1) := dk_29 (dk_at dksX6_takesOut_1 14 rfl rfl)
theorem dX6_takesOut_39 : decode cX6_takesOut 39 = .ok (.aload_n 0, 1) := dk_42 (dk_at dksX6_takesOut_1 15 rfl rfl)
theorem dX6_takesOut_40 : decode cX6_takesOut 40 = .ok (.getfield 16, 3) := dk_180 0 16 (dk_at dksX6_takesOut_1 16 rfl rfl)
theorem dX6_takesOut_43 : decode cX6_takesOut 43 = .ok (.iload_n 3, 1) := dk_29 (dk_at dksX6_takesOut_1 19 rfl rfl)
theorem dX6_takesOut_44 : decode cX6_takesOut 44 = .ok (.iload_n 2, 1) := dk_28 (dk_at dksX6_takesOut_1 20 rfl rfl)
theorem dX6_takesOut_45 : decode cX6_takesOut 45 = .ok (.iadd, 1) := dk_96 (dk_at dksX6_takesOut_1 21 rfl rfl)
theorem dX6_takesOut_46 : decode cX6_takesOut 46 = .ok (.iaload, 1) := dk_46 (dk_at dksX6_takesOut_1 22 rfl rfl)
theorem dX6_takesOut_47 : decode cX6_takesOut 47 = .ok (.iastore, 1) := dk_79 (dk_at dksX6_takesOut_1 23 rfl rfl)
theorem dX6_takesOut_48 : decode cX6_takesOut 48 = .ok (.aload_n 0, 1) := dk_42 (dk_at dksX6_takesOut_2 0 rfl rfl)
theorem dX6_takesOut_49 : decode cX6_takesOut 49 = .ok (.getfield 19, 3) := dk_180 0 19 (dk_at dksX6_takesOut_2 1 rfl rfl)
theorem dX6_takesOut_52 : decode cX6_takesOut 52 = .ok (.iload_n 3, 1) := dk_29 (dk_at dksX6_takesOut_2 4 rfl rfl)
theorem dX6_takesOut_53 : decode cX6_takesOut 53 = .ok (.aload_n 0, 1) := dk_42 (dk_at dksX6_takesOut_2 5 rfl rfl)
theorem dX6_takesOut_54 : decode cX6_takesOut 54 = .ok (.getfield 19, 3) := dk_180 0 19 (dk_at dksX6_takesOut_2 6 rfl rfl)
theorem dX6_takesOut_57 : decode cX6_takesOut 57 = .ok (.iload_n 3, 1) := dk_29 (dk_at dksX6_takesOut_2 9 rfl rfl)
theorem dX6_takesOut_58 : decode cX6_takesOut 58 = .ok (.iload_n 2, 1) := dk_28 (dk_at dksX6_takesOut_2 10 rfl rfl)
theorem dX6_takesOut_59 : decode cX6_takesOut 59 = .ok (.iadd, 1) := dk_96 (dk_at dksX6_takesOut_2 11 rfl rfl)
theorem dX6_takesOut_60 : decode cX6_takesOut 60 = .ok (.iaload, 1) := dk_46 (dk_at dksX6_takesOut_2 12 rfl rfl)
theorem dX6_takesOut_61 : decode cX6_takesOut 61 = .ok (.iastore, 1) := dk_79 (dk_at dksX6_takesOut_2 13 rfl rfl)
theorem dX6_takesOut_62 : decode cX6_takesOut 62 = .ok (.iinc 3 1, 3) := dk_132 3 1 (dk_at dksX6_takesOut_2 14 rfl rfl)
theorem dX6_takesOut_65 : decode cX6_takesOut 65 = .ok (.goto (-53), 3) := dk_167 255 203 (dk_at dksX6_takesOut_2 17 rfl rfl)
theorem dX6_takesOut_68 : decode cX6_takesOut 68 = .ok (.return_, 1) := dk_177 (dk_at dksX6_takesOut_2 20 rfl rfl)
abbrev cX6_drops : ByteArray := prog_25_method_78_code
def yX6_drops : MethodName := ⟨RX6, "drops", "(I)I"⟩
def dkwX6_drops_1 : List UInt8 := [28, 4, 3, 182, 1, 114, 29, 172]
abbrev dktX6_drops_1 : List UInt8 := dkwX6_drops_1 ++ []
def dkwX6_drops_0 : List UInt8 := [42, 27, 182, 0, 146, 61, 28, 156, 0, 9, 42, 2, 182, 0, 253, 172, 42, 180, 0, 22, 28, 46, 62, 42]
abbrev dktX6_drops_0 : List UInt8 := dkwX6_drops_0 ++ dktX6_drops_1
theorem dksX6_drops_0 : cX6_drops.data.toList.drop 0 = dktX6_drops_0 := by decide +kernel
theorem dksX6_drops_1 : cX6_drops.data.toList.drop 24 = dktX6_drops_1 := dk_seg dksX6_drops_0 24 rfl rfl
theorem dX6_drops_0 : decode cX6_drops 0 = .ok (.aload_n 0, 1) := dk_42 (dk_at dksX6_drops_0 0 rfl rfl)
theorem dX6_drops_1 : decode cX6_drops 1 = .ok (.iload_n 1, 1) := dk_27 (dk_at dksX6_drops_0 1 rfl rfl)
theorem dX6_drops_2 : decode cX6_drops 2 = .ok (.invokevirtual 146, 3) := dk_182 0 146 (dk_at dksX6_drops_0 2 rfl rfl)
theorem dX6_drops_5 : decode cX6_drops 5 = .ok (.istore_n 2, 1) := dk_61 (dk_at dksX6_drops_0 5 rfl rfl)
theorem dX6_drops_6 : decode cX6_drops 6 = .ok (.iload_n 2, 1) := dk_28 (dk_at dksX6_drops_0 6 rfl rfl)
theorem dX6_drops_7 : decode cX6_drops 7 = .ok (.ifCond .ge 9, 3) := dk_156 0 9 (dk_at dksX6_drops_0 7 rfl rfl)
theorem dX6_drops_10 : decode cX6_drops 10 = .ok (.aload_n 0, 1) := dk_42 (dk_at dksX6_drops_0 10 rfl rfl)
theorem dX6_drops_11 : decode cX6_drops 11 = .ok (.iconst (-1), 1) := dk_2 (dk_at dksX6_drops_0 11 rfl rfl)
theorem dX6_drops_12 : decode cX6_drops 12 = .ok (.invokevirtual 253, 3) := dk_182 0 253 (dk_at dksX6_drops_0 12 rfl rfl)
theorem dX6_drops_15 : decode cX6_drops 15 = .ok (.ireturn, 1) := dk_172 (dk_at dksX6_drops_0 15 rfl rfl)
theorem dX6_drops_16 : decode cX6_drops 16 = .ok (.aload_n 0, 1) := dk_42 (dk_at dksX6_drops_0 16 rfl rfl)
theorem dX6_drops_17 : decode cX6_drops 17 = .ok (.getfield 22, 3) := dk_180 0 22 (dk_at dksX6_drops_0 17 rfl rfl)
theorem dX6_drops_20 : decode cX6_drops 20 = .ok (.iload_n 2, 1) := dk_28 (dk_at dksX6_drops_0 20 rfl rfl)
theorem dX6_drops_21 : decode cX6_drops 21 = .ok (.iaload, 1) := dk_46 (dk_at dksX6_drops_0 21 rfl rfl)
theorem dX6_drops_22 : decode cX6_drops 22 = .ok (.istore_n 3, 1) := dk_62 (dk_at dksX6_drops_0 22 rfl rfl)
theorem dX6_drops_23 : decode cX6_drops 23 = .ok (.aload_n 0, 1) := dk_42 (dk_at dksX6_drops_0 23 rfl rfl)
theorem dX6_drops_24 : decode cX6_drops 24 = .ok (.iload_n 2, 1) := dk_28 (dk_at dksX6_drops_1 0 rfl rfl)
theorem dX6_drops_25 : decode cX6_drops 25 = .ok (.iconst 1, 1) := dk_4 (dk_at dksX6_drops_1 1 rfl rfl)
theorem dX6_drops_26 : decode cX6_drops 26 = .ok (.iconst 0, 1) := dk_3 (dk_at dksX6_drops_1 2 rfl rfl)
theorem dX6_drops_27 : decode cX6_drops 27 = .ok (.invokevirtual 370, 3) := dk_182 1 114 (dk_at dksX6_drops_1 3 rfl rfl)
theorem dX6_drops_30 : decode cX6_drops 30 = .ok (.iload_n 3, 1) := dk_29 (dk_at dksX6_drops_1 6 rfl rfl)
theorem dX6_drops_31 : decode cX6_drops 31 = .ok (.ireturn, 1) := dk_172 (dk_at dksX6_drops_1 7 rfl rfl)
abbrev cX6_faults : ByteArray := prog_25_method_80_code
def yX6_faults : MethodName := ⟨RX6, "faults", "()I"⟩
theorem dX6_faults_0 : decode cX6_faults 0 = .ok (.aload_n 0, 1) := by decide +kernel
theorem dX6_faults_1 : decode cX6_faults 1 = .ok (.invokevirtual 376, 3) := by decide +kernel
theorem dX6_faults_4 : decode cX6_faults 4 = .ok (.ireturn, 1) := by decide +kernel
abbrev cX6_manyNow : ByteArray := prog_25_method_79_code
def yX6_manyNow : MethodName := ⟨RX6, "manyNow", "()I"⟩
def dkwX6_manyNow_0 : List UInt8 := [42, 182, 1, 117, 42, 180, 0, 159, 172]
abbrev dktX6_manyNow_0 : List UInt8 := dkwX6_manyNow_0 ++ []
theorem dksX6_manyNow_0 : cX6_manyNow.data.toList.drop 0 = dktX6_manyNow_0 := by decide +kernel
theorem dX6_manyNow_0 : decode cX6_manyNow 0 = .ok (.aload_n 0, 1) := dk_42 (dk_at dksX6_manyNow_0 0 rfl rfl)
theorem dX6_manyNow_1 : decode cX6_manyNow 1 = .ok (.invokevirtual 373, 3) := dk_182 1 117 (dk_at dksX6_manyNow_0 1 rfl rfl)
theorem dX6_manyNow_4 : decode cX6_manyNow 4 = .ok (.aload_n 0, 1) := dk_42 (dk_at dksX6_manyNow_0 4 rfl rfl)
theorem dX6_manyNow_5 : decode cX6_manyNow 5 = .ok (.getfield 159, 3) := dk_180 0 159 (dk_at dksX6_manyNow_0 5 rfl rfl)
theorem dX6_manyNow_8 : decode cX6_manyNow 8 = .ok (.ireturn, 1) := dk_172 (dk_at dksX6_manyNow_0 8 rfl rfl)
abbrev cX6_findFaults : ByteArray := prog_25_method_40_code
def yX6_findFaults : MethodName := ⟨RX6, "findFaults", "()V"⟩
def dkwX6_findFaults_2 : List UInt8 := [180, 0, 156, 4, 100, 46, 182, 0, 243, 167, 255, 223, 177]
abbrev dktX6_findFaults_2 : List UInt8 := dkwX6_findFaults_2 ++ []
def dkwX6_findFaults_1 : List UInt8 := [180, 0, 156, 158, 0, 32, 42, 42, 180, 0, 73, 42, 180, 0, 156, 4, 100, 46, 42, 180, 0, 76, 42]
abbrev dktX6_findFaults_1 : List UInt8 := dkwX6_findFaults_1 ++ dktX6_findFaults_2
def dkwX6_findFaults_0 : List UInt8 := [42, 3, 181, 0, 159, 42, 3, 181, 0, 185, 42, 3, 181, 0, 156, 42, 3, 3, 182, 0, 210, 42]
abbrev dktX6_findFaults_0 : List UInt8 := dkwX6_findFaults_0 ++ dktX6_findFaults_1
theorem dksX6_findFaults_0 : cX6_findFaults.data.toList.drop 0 = dktX6_findFaults_0 := by decide +kernel
theorem dksX6_findFaults_1 : cX6_findFaults.data.toList.drop 22 = dktX6_findFaults_1 := dk_seg dksX6_findFaults_0 22 rfl rfl
theorem dksX6_findFaults_2 : cX6_findFaults.data.toList.drop 45 = dktX6_findFaults_2 := dk_seg dksX6_findFaults_1 23 rfl rfl
theorem dX6_findFaults_0 : decode cX6_findFaults 0 = .ok (.aload_n 0, 1) := dk_42 (dk_at dksX6_findFaults_0 0 rfl rfl)
theorem dX6_findFaults_1 : decode cX6_findFaults 1 = .ok (.iconst 0, 1) := dk_3 (dk_at dksX6_findFaults_0 1 rfl rfl)
theorem dX6_findFaults_2 : decode cX6_findFaults 2 = .ok (.putfield 159, 3) := dk_181 0 159 (dk_at dksX6_findFaults_0 2 rfl rfl)
theorem dX6_findFaults_5 : decode cX6_findFaults 5 = .ok (.aload_n 0, 1) := dk_42 (dk_at dksX6_findFaults_0 5 rfl rfl)
theorem dX6_findFaults_6 : decode cX6_findFaults 6 = .ok (.iconst 0, 1) := dk_3 (dk_at dksX6_findFaults_0 6 rfl rfl)
theorem dX6_findFaults_7 : decode cX6_findFaults 7 = .ok (.putfield 185, 3) := dk_181 0 185 (dk_at dksX6_findFaults_0 7 rfl rfl)
theorem dX6_findFaults_10 : decode cX6_findFaults 10 = .ok (.aload_n 0, 1) := dk_42 (dk_at dksX6_findFaults_0 10 rfl rfl)
theorem dX6_findFaults_11 : decode cX6_findFaults 11 = .ok (.iconst 0, 1) := dk_3 (dk_at dksX6_findFaults_0 11 rfl rfl)
theorem dX6_findFaults_12 : decode cX6_findFaults 12 = .ok (.putfield 156, 3) := dk_181 0 156 (dk_at dksX6_findFaults_0 12 rfl rfl)
theorem dX6_findFaults_15 : decode cX6_findFaults 15 = .ok (.aload_n 0, 1) := dk_42 (dk_at dksX6_findFaults_0 15 rfl rfl)
theorem dX6_findFaults_16 : decode cX6_findFaults 16 = .ok (.iconst 0, 1) := dk_3 (dk_at dksX6_findFaults_0 16 rfl rfl)
theorem dX6_findFaults_17 : decode cX6_findFaults 17 = .ok (.iconst 0, 1) := dk_3 (dk_at dksX6_findFaults_0 17 rfl rfl)
theorem dX6_findFaults_18 : decode cX6_findFaults 18 = .ok (.invokevirtual 210, 3) := dk_182 0 210 (dk_at dksX6_findFaults_0 18 rfl rfl)
theorem dX6_findFaults_21 : decode cX6_findFaults 21 = .ok (.aload_n 0, 1) := dk_42 (dk_at dksX6_findFaults_0 21 rfl rfl)
theorem dX6_findFaults_22 : decode cX6_findFaults 22 = .ok (.getfield 156, 3) := dk_180 0 156 (dk_at dksX6_findFaults_1 0 rfl rfl)
theorem dX6_findFaults_25 : decode cX6_findFaults 25 = .ok (.ifCond .le 32, 3) := dk_158 0 32 (dk_at dksX6_findFaults_1 3 rfl rfl)
theorem dX6_findFaults_28 : decode cX6_findFaults 28 = .ok (.aload_n 0, 1) := dk_42 (dk_at dksX6_findFaults_1 6 rfl rfl)
theorem dX6_findFaults_29 : decode cX6_findFaults 29 = .ok (.aload_n 0, 1) := dk_42 (dk_at dksX6_findFaults_1 7 rfl rfl)
theorem dX6_findFaults_30 : decode cX6_findFaults 30 = .ok (.getfield 73, 3) := dk_180 0 73 (dk_at dksX6_findFaults_1 8 rfl rfl)
theorem dX6_findFaults_33 : decode cX6_findFaults 33 = .ok (.aload_n 0, 1) := dk_42 (dk_at dksX6_findFaults_1 11 rfl rfl)
theorem dX6_findFaults_34 : decode cX6_findFaults 34 = .ok (.getfield 156, 3) := dk_180 0 156 (dk_at dksX6_findFaults_1 12 rfl rfl)
theorem dX6_findFaults_37 : decode cX6_findFaults 37 = .ok (.iconst 1, 1) := dk_4 (dk_at dksX6_findFaults_1 15 rfl rfl)
theorem dX6_findFaults_38 : decode cX6_findFaults 38 = .ok (.isub, 1) := dk_100 (dk_at dksX6_findFaults_1 16 rfl rfl)
theorem dX6_findFaults_39 : decode cX6_findFaults 39 = .ok (.iaload, 1) := dk_46 (dk_at dksX6_findFaults_1 17 rfl rfl)
theorem dX6_findFaults_40 : decode cX6_findFaults 40 = .ok (.aload_n 0, 1) := dk_42 (dk_at dksX6_findFaults_1 18 rfl rfl)
theorem dX6_findFaults_41 : decode cX6_findFaults 41 = .ok (.getfield 76, 3) := dk_180 0 76 (dk_at dksX6_findFaults_1 19 rfl rfl)
theorem dX6_findFaults_44 : decode cX6_findFaults 44 = .ok (.aload_n 0, 1) := dk_42 (dk_at dksX6_findFaults_1 22 rfl rfl)
theorem dX6_findFaults_45 : decode cX6_findFaults 45 = .ok (.getfield 156, 3) := dk_180 0 156 (dk_at dksX6_findFaults_2 0 rfl rfl)
theorem dX6_findFaults_48 : decode cX6_findFaults 48 = .ok (.iconst 1, 1) := dk_4 (dk_at dksX6_findFaults_2 3 rfl rfl)
theorem dX6_findFaults_49 : decode cX6_findFaults 49 = .ok (.isub, 1) := dk_100 (dk_at dksX6_findFaults_2 4 rfl rfl)
theorem dX6_findFaults_50 : decode cX6_findFaults 50 = .ok (.iaload, 1) := dk_46 (dk_at dksX6_findFaults_2 5 rfl rfl)
theorem dX6_findFaults_51 : decode cX6_findFaults 51 = .ok (.invokevirtual 243, 3) := dk_182 0 243 (dk_at dksX6_findFaults_2 6 rfl rfl)
theorem dX6_findFaults_54 : decode cX6_findFaults 54 = .ok (.goto (-33), 3) := dk_167 255 223 (dk_at dksX6_findFaults_2 9 rfl rfl)
theorem dX6_findFaults_57 : decode cX6_findFaults 57 = .ok (.return_, 1) := dk_177 (dk_at dksX6_findFaults_2 12 rfl rfl)
abbrev cX6_looks : ByteArray := prog_25_method_20_code
def yX6_looks : MethodName := ⟨RX6, "looks", "(II)V"⟩
def dkwX6_looks_1 : List UInt8 := [42, 180, 0, 156, 3, 79, 42, 89, 180, 0, 156, 4, 96, 181, 0, 156, 177]
abbrev dktX6_looks_1 : List UInt8 := dkwX6_looks_1 ++ []
def dkwX6_looks_0 : List UInt8 := [42, 180, 0, 73, 42, 180, 0, 156, 27, 79, 42, 180, 0, 76, 42, 180, 0, 156, 28, 79, 42, 180, 0, 79]
abbrev dktX6_looks_0 : List UInt8 := dkwX6_looks_0 ++ dktX6_looks_1
theorem dksX6_looks_0 : cX6_looks.data.toList.drop 0 = dktX6_looks_0 := by decide +kernel
theorem dksX6_looks_1 : cX6_looks.data.toList.drop 24 = dktX6_looks_1 := dk_seg dksX6_looks_0 24 rfl rfl
theorem dX6_looks_0 : decode cX6_looks 0 = .ok (.aload_n 0, 1) := dk_42 (dk_at dksX6_looks_0 0 rfl rfl)
theorem dX6_looks_1 : decode cX6_looks 1 = .ok (.getfield 73, 3) := dk_180 0 73 (dk_at dksX6_looks_0 1 rfl rfl)
theorem dX6_looks_4 : decode cX6_looks 4 = .ok (.aload_n 0, 1) := dk_42 (dk_at dksX6_looks_0 4 rfl rfl)
theorem dX6_looks_5 : decode cX6_looks 5 = .ok (.getfield 156, 3) := dk_180 0 156 (dk_at dksX6_looks_0 5 rfl rfl)
theorem dX6_looks_8 : decode cX6_looks 8 = .ok (.iload_n 1, 1) := dk_27 (dk_at dksX6_looks_0 8 rfl rfl)
theorem dX6_looks_9 : decode cX6_looks 9 = .ok (.iastore, 1) := dk_79 (dk_at dksX6_looks_0 9 rfl rfl)
theorem dX6_looks_10 : decode cX6_looks 10 = .ok (.aload_n 0, 1) := dk_42 (dk_at dksX6_looks_0 10 rfl rfl)
theorem dX6_looks_11 : decode cX6_looks 11 = .ok (.getfield 76, 3) := dk_180 0 76 (dk_at dksX6_looks_0 11 rfl rfl)
theorem dX6_looks_14 : decode cX6_looks 14 = .ok (.aload_n 0, 1) := dk_42 (dk_at dksX6_looks_0 14 rfl rfl)
theorem dX6_looks_15 : decode cX6_looks 15 = .ok (.getfield 156, 3) := dk_180 0 156 (dk_at dksX6_looks_0 15 rfl rfl)
theorem dX6_looks_18 : decode cX6_looks 18 = .ok (.iload_n 2, 1) := dk_28 (dk_at dksX6_looks_0 18 rfl rfl)
theorem dX6_looks_19 : decode cX6_looks 19 = .ok (.iastore, 1) := dk_79 (dk_at dksX6_looks_0 19 rfl rfl)
theorem dX6_looks_20 : decode cX6_looks 20 = .ok (.aload_n 0, 1) := dk_42 (dk_at dksX6_looks_0 20 rfl rfl)
theorem dX6_looks_21 : decode cX6_looks 21 = .ok (.getfield 79, 3) := dk_180 0 79 (dk_at dksX6_looks_0 21 rfl rfl)
theorem dX6_looks_24 : decode cX6_looks 24 = .ok (.aload_n 0, 1) := dk_42 (dk_at dksX6_looks_1 0 rfl rfl)
theorem dX6_looks_25 : decode cX6_looks 25 = .ok (.getfield 156, 3) := dk_180 0 156 (dk_at dksX6_looks_1 1 rfl rfl)
theorem dX6_looks_28 : decode cX6_looks 28 = .ok (.iconst 0, 1) := dk_3 (dk_at dksX6_looks_1 4 rfl rfl)
theorem dX6_looks_29 : decode cX6_looks 29 = .ok (.iastore, 1) := dk_79 (dk_at dksX6_looks_1 5 rfl rfl)
theorem dX6_looks_30 : decode cX6_looks 30 = .ok (.aload_n 0, 1) := dk_42 (dk_at dksX6_looks_1 6 rfl rfl)
theorem dX6_looks_31 : decode cX6_looks 31 = .ok (.dup, 1) := dk_89 (dk_at dksX6_looks_1 7 rfl rfl)
theorem dX6_looks_32 : decode cX6_looks 32 = .ok (.getfield 156, 3) := dk_180 0 156 (dk_at dksX6_looks_1 8 rfl rfl)
theorem dX6_looks_35 : decode cX6_looks 35 = .ok (.iconst 1, 1) := dk_4 (dk_at dksX6_looks_1 11 rfl rfl)
theorem dX6_looks_36 : decode cX6_looks 36 = .ok (.iadd, 1) := dk_96 (dk_at dksX6_looks_1 12 rfl rfl)
theorem dX6_looks_37 : decode cX6_looks 37 = .ok (.putfield 156, 3) := dk_181 0 156 (dk_at dksX6_looks_1 13 rfl rfl)
theorem dX6_looks_40 : decode cX6_looks 40 = .ok (.return_, 1) := dk_177 (dk_at dksX6_looks_1 16 rfl rfl)
abbrev cX6_goesOn : ByteArray := prog_25_method_39_code
def yX6_goesOn : MethodName := ⟨RX6, "goesOn", "(II)V"⟩
def dkwX6_goesOn_5 : List UInt8 := [177]
abbrev dktX6_goesOn_5 : List UInt8 := dkwX6_goesOn_5 ++ []
def dkwX6_goesOn_4 : List UInt8 := [182, 0, 240, 167, 0, 21, 42, 3, 182, 0, 165, 167, 0, 13, 42, 89, 180, 0, 156, 4, 100, 181, 0, 156]
abbrev dktX6_goesOn_4 : List UInt8 := dkwX6_goesOn_4 ++ dktX6_goesOn_5
def dkwX6_goesOn_3 : List UInt8 := [167, 0, 48, 42, 27, 28, 182, 0, 234, 167, 0, 39, 42, 27, 28, 182, 0, 237, 167, 0, 30, 42, 27, 28]
abbrev dktX6_goesOn_3 : List UInt8 := dkwX6_goesOn_3 ++ dktX6_goesOn_4
def dkwX6_goesOn_2 : List UInt8 := [42, 27, 28, 182, 0, 225, 167, 0, 66, 42, 27, 28, 182, 0, 228, 167, 0, 57, 42, 27, 28, 182, 0, 231]
abbrev dktX6_goesOn_2 : List UInt8 := dkwX6_goesOn_2 ++ dktX6_goesOn_3
def dkwX6_goesOn_1 : List UInt8 := [171, 0, 0, 0, 0, 136, 0, 0, 0, 8, 0, 0, 0, 33, 0, 0, 0, 83, 0, 0, 0, 35, 0, 0, 0, 74, 0, 0, 0, 38, 0, 0, 0, 110, 0, 0, 0, 47, 0, 0, 0, 119, 0, 0, 0, 64, 0, 0, 0, 101, 0, 0, 0, 94, 0, 0, 0, 128, 0, 0, 0, 123, 0, 0, 0, 92, 0, 0, 0, 126, 0, 0, 0, 83]
abbrev dktX6_goesOn_1 : List UInt8 := dkwX6_goesOn_1 ++ dktX6_goesOn_2
def dkwX6_goesOn_0 : List UInt8 := [42, 180, 0, 28, 27, 46]
abbrev dktX6_goesOn_0 : List UInt8 := dkwX6_goesOn_0 ++ dktX6_goesOn_1
theorem dksX6_goesOn_0 : cX6_goesOn.data.toList.drop 0 = dktX6_goesOn_0 := by decide +kernel
theorem dksX6_goesOn_1 : cX6_goesOn.data.toList.drop 6 = dktX6_goesOn_1 := dk_seg dksX6_goesOn_0 6 rfl rfl
theorem dksX6_goesOn_2 : cX6_goesOn.data.toList.drop 80 = dktX6_goesOn_2 := dk_seg dksX6_goesOn_1 74 rfl rfl
theorem dksX6_goesOn_3 : cX6_goesOn.data.toList.drop 104 = dktX6_goesOn_3 := dk_seg dksX6_goesOn_2 24 rfl rfl
theorem dksX6_goesOn_4 : cX6_goesOn.data.toList.drop 128 = dktX6_goesOn_4 := dk_seg dksX6_goesOn_3 24 rfl rfl
theorem dksX6_goesOn_5 : cX6_goesOn.data.toList.drop 152 = dktX6_goesOn_5 := dk_seg dksX6_goesOn_4 24 rfl rfl
theorem dX6_goesOn_0 : decode cX6_goesOn 0 = .ok (.aload_n 0, 1) := dk_42 (dk_at dksX6_goesOn_0 0 rfl rfl)
theorem dX6_goesOn_1 : decode cX6_goesOn 1 = .ok (.getfield 28, 3) := dk_180 0 28 (dk_at dksX6_goesOn_0 1 rfl rfl)
theorem dX6_goesOn_4 : decode cX6_goesOn 4 = .ok (.iload_n 1, 1) := dk_27 (dk_at dksX6_goesOn_0 4 rfl rfl)
theorem dX6_goesOn_5 : decode cX6_goesOn 5 = .ok (.iaload, 1) := dk_46 (dk_at dksX6_goesOn_0 5 rfl rfl)
theorem dX6_goesOn_6 : decode cX6_goesOn 6 = .ok (.lookupswitch 136 #[(33, 83), (35, 74), (38, 110), (47, 119), (64, 101), (94, 128), (123, 92), (126, 83)], 74) := by decide +kernel
theorem dX6_goesOn_80 : decode cX6_goesOn 80 = .ok (.aload_n 0, 1) := dk_42 (dk_at dksX6_goesOn_2 0 rfl rfl)
theorem dX6_goesOn_81 : decode cX6_goesOn 81 = .ok (.iload_n 1, 1) := dk_27 (dk_at dksX6_goesOn_2 1 rfl rfl)
theorem dX6_goesOn_82 : decode cX6_goesOn 82 = .ok (.iload_n 2, 1) := dk_28 (dk_at dksX6_goesOn_2 2 rfl rfl)
theorem dX6_goesOn_83 : decode cX6_goesOn 83 = .ok (.invokevirtual 225, 3) := dk_182 0 225 (dk_at dksX6_goesOn_2 3 rfl rfl)
theorem dX6_goesOn_86 : decode cX6_goesOn 86 = .ok (.goto 66, 3) := dk_167 0 66 (dk_at dksX6_goesOn_2 6 rfl rfl)
theorem dX6_goesOn_89 : decode cX6_goesOn 89 = .ok (.aload_n 0, 1) := dk_42 (dk_at dksX6_goesOn_2 9 rfl rfl)
theorem dX6_goesOn_90 : decode cX6_goesOn 90 = .ok (.iload_n 1, 1) := dk_27 (dk_at dksX6_goesOn_2 10 rfl rfl)
theorem dX6_goesOn_91 : decode cX6_goesOn 91 = .ok (.iload_n 2, 1) := dk_28 (dk_at dksX6_goesOn_2 11 rfl rfl)
theorem dX6_goesOn_92 : decode cX6_goesOn 92 = .ok (.invokevirtual 228, 3) := dk_182 0 228 (dk_at dksX6_goesOn_2 12 rfl rfl)
theorem dX6_goesOn_95 : decode cX6_goesOn 95 = .ok (.goto 57, 3) := dk_167 0 57 (dk_at dksX6_goesOn_2 15 rfl rfl)
theorem dX6_goesOn_98 : decode cX6_goesOn 98 = .ok (.aload_n 0, 1) := dk_42 (dk_at dksX6_goesOn_2 18 rfl rfl)
theorem dX6_goesOn_99 : decode cX6_goesOn 99 = .ok (.iload_n 1, 1) := dk_27 (dk_at dksX6_goesOn_2 19 rfl rfl)
theorem dX6_goesOn_100 : decode cX6_goesOn 100 = .ok (.iload_n 2, 1) := dk_28 (dk_at dksX6_goesOn_2 20 rfl rfl)
theorem dX6_goesOn_101 : decode cX6_goesOn 101 = .ok (.invokevirtual 231, 3) := dk_182 0 231 (dk_at dksX6_goesOn_2 21 rfl rfl)
theorem dX6_goesOn_104 : decode cX6_goesOn 104 = .ok (.goto 48, 3) := dk_167 0 48 (dk_at dksX6_goesOn_3 0 rfl rfl)
theorem dX6_goesOn_107 : decode cX6_goesOn 107 = .ok (.aload_n 0, 1) := dk_42 (dk_at dksX6_goesOn_3 3 rfl rfl)
theorem dX6_goesOn_108 : decode cX6_goesOn 108 = .ok (.iload_n 1, 1) := dk_27 (dk_at dksX6_goesOn_3 4 rfl rfl)
theorem dX6_goesOn_109 : decode cX6_goesOn 109 = .ok (.iload_n 2, 1) := dk_28 (dk_at dksX6_goesOn_3 5 rfl rfl)
theorem dX6_goesOn_110 : decode cX6_goesOn 110 = .ok (.invokevirtual 234, 3) := dk_182 0 234 (dk_at dksX6_goesOn_3 6 rfl rfl)
theorem dX6_goesOn_113 : decode cX6_goesOn 113 = .ok (.goto 39, 3) := dk_167 0 39 (dk_at dksX6_goesOn_3 9 rfl rfl)
theorem dX6_goesOn_116 : decode cX6_goesOn 116 = .ok (.aload_n 0, 1) := dk_42 (dk_at dksX6_goesOn_3 12 rfl rfl)
theorem dX6_goesOn_117 : decode cX6_goesOn 117 = .ok (.iload_n 1, 1) := dk_27 (dk_at dksX6_goesOn_3 13 rfl rfl)
theorem dX6_goesOn_118 : decode cX6_goesOn 118 = .ok (.iload_n 2, 1) := dk_28 (dk_at dksX6_goesOn_3 14 rfl rfl)
theorem dX6_goesOn_119 : decode cX6_goesOn 119 = .ok (.invokevirtual 237, 3) := dk_182 0 237 (dk_at dksX6_goesOn_3 15 rfl rfl)
theorem dX6_goesOn_122 : decode cX6_goesOn 122 = .ok (.goto 30, 3) := dk_167 0 30 (dk_at dksX6_goesOn_3 18 rfl rfl)
theorem dX6_goesOn_125 : decode cX6_goesOn 125 = .ok (.aload_n 0, 1) := dk_42 (dk_at dksX6_goesOn_3 21 rfl rfl)
theorem dX6_goesOn_126 : decode cX6_goesOn 126 = .ok (.iload_n 1, 1) := dk_27 (dk_at dksX6_goesOn_3 22 rfl rfl)
theorem dX6_goesOn_127 : decode cX6_goesOn 127 = .ok (.iload_n 2, 1) := dk_28 (dk_at dksX6_goesOn_3 23 rfl rfl)
theorem dX6_goesOn_128 : decode cX6_goesOn 128 = .ok (.invokevirtual 240, 3) := dk_182 0 240 (dk_at dksX6_goesOn_4 0 rfl rfl)
theorem dX6_goesOn_131 : decode cX6_goesOn 131 = .ok (.goto 21, 3) := dk_167 0 21 (dk_at dksX6_goesOn_4 3 rfl rfl)
theorem dX6_goesOn_134 : decode cX6_goesOn 134 = .ok (.aload_n 0, 1) := dk_42 (dk_at dksX6_goesOn_4 6 rfl rfl)
theorem dX6_goesOn_135 : decode cX6_goesOn 135 = .ok (.iconst 0, 1) := dk_3 (dk_at dksX6_goesOn_4 7 rfl rfl)
theorem dX6_goesOn_136 : decode cX6_goesOn 136 = .ok (.invokevirtual 165, 3) := dk_182 0 165 (dk_at dksX6_goesOn_4 8 rfl rfl)
theorem dX6_goesOn_139 : decode cX6_goesOn 139 = .ok (.goto 13, 3) := dk_167 0 13 (dk_at dksX6_goesOn_4 11 rfl rfl)
theorem dX6_goesOn_142 : decode cX6_goesOn 142 = .ok (.aload_n 0, 1) := dk_42 (dk_at dksX6_goesOn_4 14 rfl rfl)
theorem dX6_goesOn_143 : decode cX6_goesOn 143 = .ok (.dup, 1) := dk_89 (dk_at dksX6_goesOn_4 15 rfl rfl)
theorem dX6_goesOn_144 : decode cX6_goesOn 144 = .ok (.getfield 156, 3) := dk_180 0 156 (dk_at dksX6_goesOn_4 16 rfl rfl)
theorem dX6_goesOn_147 : decode cX6_goesOn 147 = .ok (.iconst 1, 1) := dk_4 (dk_at dksX6_goesOn_4 19 rfl rfl)
theorem dX6_goesOn_148 : decode cX6_goesOn 148 = .ok (.isub, 1) := dk_100 (dk_at dksX6_goesOn_4 20 rfl rfl)
theorem dX6_goesOn_149 : decode cX6_goesOn 149 = .ok (.putfield 156, 3) := dk_181 0 156 (dk_at dksX6_goesOn_4 21 rfl rfl)
theorem dX6_goesOn_152 : decode cX6_goesOn 152 = .ok (.return_, 1) := dk_177 (dk_at dksX6_goesOn_5 0 rfl rfl)
abbrev cX6_findsNumber : ByteArray := prog_25_method_23_code
def yX6_findsNumber : MethodName := ⟨RX6, "findsNumber", "(II)V"⟩
def dkwX6_findsNumber_3 : List UInt8 := [27, 46, 164, 0, 14, 42, 42, 180, 0, 25, 28, 46, 6, 182, 0, 162, 177]
abbrev dktX6_findsNumber_3 : List UInt8 := dkwX6_findsNumber_3 ++ []
def dkwX6_findsNumber_2 : List UInt8 := [42, 42, 180, 0, 25, 28, 46, 5, 182, 0, 162, 167, 0, 29, 42, 180, 0, 16, 28, 46, 42, 180, 0, 34]
abbrev dktX6_findsNumber_2 : List UInt8 := dkwX6_findsNumber_2 ++ dktX6_findsNumber_3
def dkwX6_findsNumber_1 : List UInt8 := [28, 46, 4, 182, 0, 162, 167, 0, 58, 42, 180, 0, 16, 28, 46, 42, 180, 0, 31, 27, 46, 162, 0, 17]
abbrev dktX6_findsNumber_1 : List UInt8 := dkwX6_findsNumber_1 ++ dktX6_findsNumber_2
def dkwX6_findsNumber_0 : List UInt8 := [42, 89, 180, 0, 156, 4, 100, 181, 0, 156, 42, 180, 0, 13, 28, 46, 153, 0, 17, 42, 42, 180, 0, 25]
abbrev dktX6_findsNumber_0 : List UInt8 := dkwX6_findsNumber_0 ++ dktX6_findsNumber_1
theorem dksX6_findsNumber_0 : cX6_findsNumber.data.toList.drop 0 = dktX6_findsNumber_0 := by decide +kernel
theorem dksX6_findsNumber_1 : cX6_findsNumber.data.toList.drop 24 = dktX6_findsNumber_1 := dk_seg dksX6_findsNumber_0 24 rfl rfl
theorem dksX6_findsNumber_2 : cX6_findsNumber.data.toList.drop 48 = dktX6_findsNumber_2 := dk_seg dksX6_findsNumber_1 24 rfl rfl
theorem dksX6_findsNumber_3 : cX6_findsNumber.data.toList.drop 72 = dktX6_findsNumber_3 := dk_seg dksX6_findsNumber_2 24 rfl rfl
theorem dX6_findsNumber_0 : decode cX6_findsNumber 0 = .ok (.aload_n 0, 1) := dk_42 (dk_at dksX6_findsNumber_0 0 rfl rfl)
theorem dX6_findsNumber_1 : decode cX6_findsNumber 1 = .ok (.dup, 1) := dk_89 (dk_at dksX6_findsNumber_0 1 rfl rfl)
theorem dX6_findsNumber_2 : decode cX6_findsNumber 2 = .ok (.getfield 156, 3) := dk_180 0 156 (dk_at dksX6_findsNumber_0 2 rfl rfl)
theorem dX6_findsNumber_5 : decode cX6_findsNumber 5 = .ok (.iconst 1, 1) := dk_4 (dk_at dksX6_findsNumber_0 5 rfl rfl)
theorem dX6_findsNumber_6 : decode cX6_findsNumber 6 = .ok (.isub, 1) := dk_100 (dk_at dksX6_findsNumber_0 6 rfl rfl)
theorem dX6_findsNumber_7 : decode cX6_findsNumber 7 = .ok (.putfield 156, 3) := dk_181 0 156 (dk_at dksX6_findsNumber_0 7 rfl rfl)
theorem dX6_findsNumber_10 : decode cX6_findsNumber 10 = .ok (.aload_n 0, 1) := dk_42 (dk_at dksX6_findsNumber_0 10 rfl rfl)
theorem dX6_findsNumber_11 : decode cX6_findsNumber 11 = .ok (.getfield 13, 3) := dk_180 0 13 (dk_at dksX6_findsNumber_0 11 rfl rfl)
theorem dX6_findsNumber_14 : decode cX6_findsNumber 14 = .ok (.iload_n 2, 1) := dk_28 (dk_at dksX6_findsNumber_0 14 rfl rfl)
theorem dX6_findsNumber_15 : decode cX6_findsNumber 15 = .ok (.iaload, 1) := dk_46 (dk_at dksX6_findsNumber_0 15 rfl rfl)
theorem dX6_findsNumber_16 : decode cX6_findsNumber 16 = .ok (.ifCond .eq 17, 3) := dk_153 0 17 (dk_at dksX6_findsNumber_0 16 rfl rfl)
theorem dX6_findsNumber_19 : decode cX6_findsNumber 19 = .ok (.aload_n 0, 1) := dk_42 (dk_at dksX6_findsNumber_0 19 rfl rfl)
theorem dX6_findsNumber_20 : decode cX6_findsNumber 20 = .ok (.aload_n 0, 1) := dk_42 (dk_at dksX6_findsNumber_0 20 rfl rfl)
theorem dX6_findsNumber_21 : decode cX6_findsNumber 21 = .ok (.getfield 25, 3) := dk_180 0 25 (dk_at dksX6_findsNumber_0 21 rfl rfl)
theorem dX6_findsNumber_24 : decode cX6_findsNumber 24 = .ok (.iload_n 2, 1) := dk_28 (dk_at dksX6_findsNumber_1 0 rfl rfl)
theorem dX6_findsNumber_25 : decode cX6_findsNumber 25 = .ok (.iaload, 1) := dk_46 (dk_at dksX6_findsNumber_1 1 rfl rfl)
theorem dX6_findsNumber_26 : decode cX6_findsNumber 26 = .ok (.iconst 1, 1) := dk_4 (dk_at dksX6_findsNumber_1 2 rfl rfl)
theorem dX6_findsNumber_27 : decode cX6_findsNumber 27 = .ok (.invokevirtual 162, 3) := dk_182 0 162 (dk_at dksX6_findsNumber_1 3 rfl rfl)
theorem dX6_findsNumber_30 : decode cX6_findsNumber 30 = .ok (.goto 58, 3) := dk_167 0 58 (dk_at dksX6_findsNumber_1 6 rfl rfl)
theorem dX6_findsNumber_33 : decode cX6_findsNumber 33 = .ok (.aload_n 0, 1) := dk_42 (dk_at dksX6_findsNumber_1 9 rfl rfl)
theorem dX6_findsNumber_34 : decode cX6_findsNumber 34 = .ok (.getfield 16, 3) := dk_180 0 16 (dk_at dksX6_findsNumber_1 10 rfl rfl)
theorem dX6_findsNumber_37 : decode cX6_findsNumber 37 = .ok (.iload_n 2, 1) := dk_28 (dk_at dksX6_findsNumber_1 13 rfl rfl)
theorem dX6_findsNumber_38 : decode cX6_findsNumber 38 = .ok (.iaload, 1) := dk_46 (dk_at dksX6_findsNumber_1 14 rfl rfl)
theorem dX6_findsNumber_39 : decode cX6_findsNumber 39 = .ok (.aload_n 0, 1) := dk_42 (dk_at dksX6_findsNumber_1 15 rfl rfl)
theorem dX6_findsNumber_40 : decode cX6_findsNumber 40 = .ok (.getfield 31, 3) := dk_180 0 31 (dk_at dksX6_findsNumber_1 16 rfl rfl)
theorem dX6_findsNumber_43 : decode cX6_findsNumber 43 = .ok (.iload_n 1, 1) := dk_27 (dk_at dksX6_findsNumber_1 19 rfl rfl)
theorem dX6_findsNumber_44 : decode cX6_findsNumber 44 = .ok (.iaload, 1) := dk_46 (dk_at dksX6_findsNumber_1 20 rfl rfl)
theorem dX6_findsNumber_45 : decode cX6_findsNumber 45 = .ok (.if_icmp .ge 17, 3) := dk_162 0 17 (dk_at dksX6_findsNumber_1 21 rfl rfl)
theorem dX6_findsNumber_48 : decode cX6_findsNumber 48 = .ok (.aload_n 0, 1) := dk_42 (dk_at dksX6_findsNumber_2 0 rfl rfl)
theorem dX6_findsNumber_49 : decode cX6_findsNumber 49 = .ok (.aload_n 0, 1) := dk_42 (dk_at dksX6_findsNumber_2 1 rfl rfl)
theorem dX6_findsNumber_50 : decode cX6_findsNumber 50 = .ok (.getfield 25, 3) := dk_180 0 25 (dk_at dksX6_findsNumber_2 2 rfl rfl)
theorem dX6_findsNumber_53 : decode cX6_findsNumber 53 = .ok (.iload_n 2, 1) := dk_28 (dk_at dksX6_findsNumber_2 5 rfl rfl)
theorem dX6_findsNumber_54 : decode cX6_findsNumber 54 = .ok (.iaload, 1) := dk_46 (dk_at dksX6_findsNumber_2 6 rfl rfl)
theorem dX6_findsNumber_55 : decode cX6_findsNumber 55 = .ok (.iconst 2, 1) := dk_5 (dk_at dksX6_findsNumber_2 7 rfl rfl)
theorem dX6_findsNumber_56 : decode cX6_findsNumber 56 = .ok (.invokevirtual 162, 3) := dk_182 0 162 (dk_at dksX6_findsNumber_2 8 rfl rfl)
theorem dX6_findsNumber_59 : decode cX6_findsNumber 59 = .ok (.goto 29, 3) := dk_167 0 29 (dk_at dksX6_findsNumber_2 11 rfl rfl)
theorem dX6_findsNumber_62 : decode cX6_findsNumber 62 = .ok (.aload_n 0, 1) := dk_42 (dk_at dksX6_findsNumber_2 14 rfl rfl)
theorem dX6_findsNumber_63 : decode cX6_findsNumber 63 = .ok (.getfield 16, 3) := dk_180 0 16 (dk_at dksX6_findsNumber_2 15 rfl rfl)
theorem dX6_findsNumber_66 : decode cX6_findsNumber 66 = .ok (.iload_n 2, 1) := dk_28 (dk_at dksX6_findsNumber_2 18 rfl rfl)
theorem dX6_findsNumber_67 : decode cX6_findsNumber 67 = .ok (.iaload, 1) := dk_46 (dk_at dksX6_findsNumber_2 19 rfl rfl)
theorem dX6_findsNumber_68 : decode cX6_findsNumber 68 = .ok (.aload_n 0, 1) := dk_42 (dk_at dksX6_findsNumber_2 20 rfl rfl)
theorem dX6_findsNumber_69 : decode cX6_findsNumber 69 = .ok (.getfield 34, 3) := dk_180 0 34 (dk_at dksX6_findsNumber_2 21 rfl rfl)
theorem dX6_findsNumber_72 : decode cX6_findsNumber 72 = .ok (.iload_n 1, 1) := dk_27 (dk_at dksX6_findsNumber_3 0 rfl rfl)
theorem dX6_findsNumber_73 : decode cX6_findsNumber 73 = .ok (.iaload, 1) := dk_46 (dk_at dksX6_findsNumber_3 1 rfl rfl)
theorem dX6_findsNumber_74 : decode cX6_findsNumber 74 = .ok (.if_icmp .le 14, 3) := dk_164 0 14 (dk_at dksX6_findsNumber_3 2 rfl rfl)
theorem dX6_findsNumber_77 : decode cX6_findsNumber 77 = .ok (.aload_n 0, 1) := dk_42 (dk_at dksX6_findsNumber_3 5 rfl rfl)
theorem dX6_findsNumber_78 : decode cX6_findsNumber 78 = .ok (.aload_n 0, 1) := dk_42 (dk_at dksX6_findsNumber_3 6 rfl rfl)
theorem dX6_findsNumber_79 : decode cX6_findsNumber 79 = .ok (.getfield 25, 3) := dk_180 0 25 (dk_at dksX6_findsNumber_3 7 rfl rfl)
theorem dX6_findsNumber_82 : decode cX6_findsNumber 82 = .ok (.iload_n 2, 1) := dk_28 (dk_at dksX6_findsNumber_3 10 rfl rfl)
theorem dX6_findsNumber_83 : decode cX6_findsNumber 83 = .ok (.iaload, 1) := dk_46 (dk_at dksX6_findsNumber_3 11 rfl rfl)
theorem dX6_findsNumber_84 : decode cX6_findsNumber 84 = .ok (.iconst 3, 1) := dk_6 (dk_at dksX6_findsNumber_3 12 rfl rfl)
theorem dX6_findsNumber_85 : decode cX6_findsNumber 85 = .ok (.invokevirtual 162, 3) := dk_182 0 162 (dk_at dksX6_findsNumber_3 13 rfl rfl)
theorem dX6_findsNumber_88 : decode cX6_findsNumber 88 = .ok (.return_, 1) := dk_177 (dk_at dksX6_findsNumber_3 16 rfl rfl)
abbrev cX6_finds : ByteArray := prog_25_method_21_code
def yX6_finds : MethodName := ⟨RX6, "finds", "(II)V"⟩
def dkwX6_finds_1 : List UInt8 := [180, 0, 159, 4, 96, 181, 0, 159, 177]
abbrev dktX6_finds_1 : List UInt8 := dkwX6_finds_1 ++ []
def dkwX6_finds_0 : List UInt8 := [42, 180, 0, 67, 42, 180, 0, 159, 27, 79, 42, 180, 0, 70, 42, 180, 0, 159, 28, 79, 42, 89]
abbrev dktX6_finds_0 : List UInt8 := dkwX6_finds_0 ++ dktX6_finds_1
theorem dksX6_finds_0 : cX6_finds.data.toList.drop 0 = dktX6_finds_0 := by decide +kernel
theorem dksX6_finds_1 : cX6_finds.data.toList.drop 22 = dktX6_finds_1 := dk_seg dksX6_finds_0 22 rfl rfl
theorem dX6_finds_0 : decode cX6_finds 0 = .ok (.aload_n 0, 1) := dk_42 (dk_at dksX6_finds_0 0 rfl rfl)
theorem dX6_finds_1 : decode cX6_finds 1 = .ok (.getfield 67, 3) := dk_180 0 67 (dk_at dksX6_finds_0 1 rfl rfl)
theorem dX6_finds_4 : decode cX6_finds 4 = .ok (.aload_n 0, 1) := dk_42 (dk_at dksX6_finds_0 4 rfl rfl)
theorem dX6_finds_5 : decode cX6_finds 5 = .ok (.getfield 159, 3) := dk_180 0 159 (dk_at dksX6_finds_0 5 rfl rfl)
theorem dX6_finds_8 : decode cX6_finds 8 = .ok (.iload_n 1, 1) := dk_27 (dk_at dksX6_finds_0 8 rfl rfl)
theorem dX6_finds_9 : decode cX6_finds 9 = .ok (.iastore, 1) := dk_79 (dk_at dksX6_finds_0 9 rfl rfl)
theorem dX6_finds_10 : decode cX6_finds 10 = .ok (.aload_n 0, 1) := dk_42 (dk_at dksX6_finds_0 10 rfl rfl)
theorem dX6_finds_11 : decode cX6_finds 11 = .ok (.getfield 70, 3) := dk_180 0 70 (dk_at dksX6_finds_0 11 rfl rfl)
theorem dX6_finds_14 : decode cX6_finds 14 = .ok (.aload_n 0, 1) := dk_42 (dk_at dksX6_finds_0 14 rfl rfl)
theorem dX6_finds_15 : decode cX6_finds 15 = .ok (.getfield 159, 3) := dk_180 0 159 (dk_at dksX6_finds_0 15 rfl rfl)
theorem dX6_finds_18 : decode cX6_finds 18 = .ok (.iload_n 2, 1) := dk_28 (dk_at dksX6_finds_0 18 rfl rfl)
theorem dX6_finds_19 : decode cX6_finds 19 = .ok (.iastore, 1) := dk_79 (dk_at dksX6_finds_0 19 rfl rfl)
theorem dX6_finds_20 : decode cX6_finds 20 = .ok (.aload_n 0, 1) := dk_42 (dk_at dksX6_finds_0 20 rfl rfl)
theorem dX6_finds_21 : decode cX6_finds 21 = .ok (.dup, 1) := dk_89 (dk_at dksX6_finds_0 21 rfl rfl)
theorem dX6_finds_22 : decode cX6_finds 22 = .ok (.getfield 159, 3) := dk_180 0 159 (dk_at dksX6_finds_1 0 rfl rfl)
theorem dX6_finds_25 : decode cX6_finds 25 = .ok (.iconst 1, 1) := dk_4 (dk_at dksX6_finds_1 3 rfl rfl)
theorem dX6_finds_26 : decode cX6_finds 26 = .ok (.iadd, 1) := dk_96 (dk_at dksX6_finds_1 4 rfl rfl)
theorem dX6_finds_27 : decode cX6_finds 27 = .ok (.putfield 159, 3) := dk_181 0 159 (dk_at dksX6_finds_1 5 rfl rfl)
theorem dX6_finds_30 : decode cX6_finds 30 = .ok (.return_, 1) := dk_177 (dk_at dksX6_finds_1 8 rfl rfl)
abbrev cX6_findsThere : ByteArray := prog_25_method_24_code
def yX6_findsThere : MethodName := ⟨RX6, "findsThere", "(II)V"⟩
def dkwX6_findsThere_2 : List UInt8 := [28, 46, 7, 182, 0, 162, 177]
abbrev dktX6_findsThere_2 : List UInt8 := dkwX6_findsThere_2 ++ []
def dkwX6_findsThere_1 : List UInt8 := [180, 0, 156, 4, 100, 181, 0, 156, 42, 180, 0, 28, 27, 46, 16, 33, 160, 0, 14, 42, 42, 180, 0, 25]
abbrev dktX6_findsThere_1 : List UInt8 := dkwX6_findsThere_1 ++ dktX6_findsThere_2
def dkwX6_findsThere_0 : List UInt8 := [42, 180, 0, 13, 28, 46, 4, 159, 0, 14, 42, 42, 180, 0, 37, 27, 46, 182, 0, 165, 177, 42, 89]
abbrev dktX6_findsThere_0 : List UInt8 := dkwX6_findsThere_0 ++ dktX6_findsThere_1
theorem dksX6_findsThere_0 : cX6_findsThere.data.toList.drop 0 = dktX6_findsThere_0 := by decide +kernel
theorem dksX6_findsThere_1 : cX6_findsThere.data.toList.drop 23 = dktX6_findsThere_1 := dk_seg dksX6_findsThere_0 23 rfl rfl
theorem dksX6_findsThere_2 : cX6_findsThere.data.toList.drop 47 = dktX6_findsThere_2 := dk_seg dksX6_findsThere_1 24 rfl rfl
theorem dX6_findsThere_0 : decode cX6_findsThere 0 = .ok (.aload_n 0, 1) := dk_42 (dk_at dksX6_findsThere_0 0 rfl rfl)
theorem dX6_findsThere_1 : decode cX6_findsThere 1 = .ok (.getfield 13, 3) := dk_180 0 13 (dk_at dksX6_findsThere_0 1 rfl rfl)
theorem dX6_findsThere_4 : decode cX6_findsThere 4 = .ok (.iload_n 2, 1) := dk_28 (dk_at dksX6_findsThere_0 4 rfl rfl)
theorem dX6_findsThere_5 : decode cX6_findsThere 5 = .ok (.iaload, 1) := dk_46 (dk_at dksX6_findsThere_0 5 rfl rfl)
theorem dX6_findsThere_6 : decode cX6_findsThere 6 = .ok (.iconst 1, 1) := dk_4 (dk_at dksX6_findsThere_0 6 rfl rfl)
theorem dX6_findsThere_7 : decode cX6_findsThere 7 = .ok (.if_icmp .eq 14, 3) := dk_159 0 14 (dk_at dksX6_findsThere_0 7 rfl rfl)
theorem dX6_findsThere_10 : decode cX6_findsThere 10 = .ok (.aload_n 0, 1) := dk_42 (dk_at dksX6_findsThere_0 10 rfl rfl)
theorem dX6_findsThere_11 : decode cX6_findsThere 11 = .ok (.aload_n 0, 1) := dk_42 (dk_at dksX6_findsThere_0 11 rfl rfl)
theorem dX6_findsThere_12 : decode cX6_findsThere 12 = .ok (.getfield 37, 3) := dk_180 0 37 (dk_at dksX6_findsThere_0 12 rfl rfl)
theorem dX6_findsThere_15 : decode cX6_findsThere 15 = .ok (.iload_n 1, 1) := dk_27 (dk_at dksX6_findsThere_0 15 rfl rfl)
theorem dX6_findsThere_16 : decode cX6_findsThere 16 = .ok (.iaload, 1) := dk_46 (dk_at dksX6_findsThere_0 16 rfl rfl)
theorem dX6_findsThere_17 : decode cX6_findsThere 17 = .ok (.invokevirtual 165, 3) := dk_182 0 165 (dk_at dksX6_findsThere_0 17 rfl rfl)
theorem dX6_findsThere_20 : decode cX6_findsThere 20 = .ok (.return_, 1) := dk_177 (dk_at dksX6_findsThere_0 20 rfl rfl)
theorem dX6_findsThere_21 : decode cX6_findsThere 21 = .ok (.aload_n 0, 1) := dk_42 (dk_at dksX6_findsThere_0 21 rfl rfl)
theorem dX6_findsThere_22 : decode cX6_findsThere 22 = .ok (.dup, 1) := dk_89 (dk_at dksX6_findsThere_0 22 rfl rfl)
theorem dX6_findsThere_23 : decode cX6_findsThere 23 = .ok (.getfield 156, 3) := dk_180 0 156 (dk_at dksX6_findsThere_1 0 rfl rfl)
theorem dX6_findsThere_26 : decode cX6_findsThere 26 = .ok (.iconst 1, 1) := dk_4 (dk_at dksX6_findsThere_1 3 rfl rfl)
theorem dX6_findsThere_27 : decode cX6_findsThere 27 = .ok (.isub, 1) := dk_100 (dk_at dksX6_findsThere_1 4 rfl rfl)
theorem dX6_findsThere_28 : decode cX6_findsThere 28 = .ok (.putfield 156, 3) := dk_181 0 156 (dk_at dksX6_findsThere_1 5 rfl rfl)
theorem dX6_findsThere_31 : decode cX6_findsThere 31 = .ok (.aload_n 0, 1) := dk_42 (dk_at dksX6_findsThere_1 8 rfl rfl)
theorem dX6_findsThere_32 : decode cX6_findsThere 32 = .ok (.getfield 28, 3) := dk_180 0 28 (dk_at dksX6_findsThere_1 9 rfl rfl)
theorem dX6_findsThere_35 : decode cX6_findsThere 35 = .ok (.iload_n 1, 1) := dk_27 (dk_at dksX6_findsThere_1 12 rfl rfl)
theorem dX6_findsThere_36 : decode cX6_findsThere 36 = .ok (.iaload, 1) := dk_46 (dk_at dksX6_findsThere_1 13 rfl rfl)
theorem dX6_findsThere_37 : decode cX6_findsThere 37 = .ok (.bipush 33, 2) := dk_16 33 (dk_at dksX6_findsThere_1 14 rfl rfl)
theorem dX6_findsThere_39 : decode cX6_findsThere 39 = .ok (.if_icmp .ne 14, 3) := dk_160 0 14 (dk_at dksX6_findsThere_1 16 rfl rfl)
theorem dX6_findsThere_42 : decode cX6_findsThere 42 = .ok (.aload_n 0, 1) := dk_42 (dk_at dksX6_findsThere_1 19 rfl rfl)
theorem dX6_findsThere_43 : decode cX6_findsThere 43 = .ok (.aload_n 0, 1) := dk_42 (dk_at dksX6_findsThere_1 20 rfl rfl)
theorem dX6_findsThere_44 : decode cX6_findsThere 44 = .ok (.getfield 25, 3) := dk_180 0 25 (dk_at dksX6_findsThere_1 21 rfl rfl)
theorem dX6_findsThere_47 : decode cX6_findsThere 47 = .ok (.iload_n 2, 1) := dk_28 (dk_at dksX6_findsThere_2 0 rfl rfl)
theorem dX6_findsThere_48 : decode cX6_findsThere 48 = .ok (.iaload, 1) := dk_46 (dk_at dksX6_findsThere_2 1 rfl rfl)
theorem dX6_findsThere_49 : decode cX6_findsThere 49 = .ok (.iconst 4, 1) := dk_7 (dk_at dksX6_findsThere_2 2 rfl rfl)
theorem dX6_findsThere_50 : decode cX6_findsThere 50 = .ok (.invokevirtual 162, 3) := dk_182 0 162 (dk_at dksX6_findsThere_2 3 rfl rfl)
theorem dX6_findsThere_53 : decode cX6_findsThere 53 = .ok (.return_, 1) := dk_177 (dk_at dksX6_findsThere_2 6 rfl rfl)
abbrev cX6_looksAs : ByteArray := prog_25_method_22_code
def yX6_looksAs : MethodName := ⟨RX6, "looksAs", "(I)V"⟩
def dkwX6_looksAs_1 : List UInt8 := [177]
abbrev dktX6_looksAs_1 : List UInt8 := dkwX6_looksAs_1 ++ []
def dkwX6_looksAs_0 : List UInt8 := [42, 180, 0, 73, 42, 180, 0, 156, 4, 100, 27, 79, 42, 180, 0, 79, 42, 180, 0, 156, 4, 100, 3, 79]
abbrev dktX6_looksAs_0 : List UInt8 := dkwX6_looksAs_0 ++ dktX6_looksAs_1
theorem dksX6_looksAs_0 : cX6_looksAs.data.toList.drop 0 = dktX6_looksAs_0 := by decide +kernel
theorem dksX6_looksAs_1 : cX6_looksAs.data.toList.drop 24 = dktX6_looksAs_1 := dk_seg dksX6_looksAs_0 24 rfl rfl
theorem dX6_looksAs_0 : decode cX6_looksAs 0 = .ok (.aload_n 0, 1) := dk_42 (dk_at dksX6_looksAs_0 0 rfl rfl)
theorem dX6_looksAs_1 : decode cX6_looksAs 1 = .ok (.getfield 73, 3) := dk_180 0 73 (dk_at dksX6_looksAs_0 1 rfl rfl)
theorem dX6_looksAs_4 : decode cX6_looksAs 4 = .ok (.aload_n 0, 1) := dk_42 (dk_at dksX6_looksAs_0 4 rfl rfl)
theorem dX6_looksAs_5 : decode cX6_looksAs 5 = .ok (.getfield 156, 3) := dk_180 0 156 (dk_at dksX6_looksAs_0 5 rfl rfl)
theorem dX6_looksAs_8 : decode cX6_looksAs 8 = .ok (.iconst 1, 1) := dk_4 (dk_at dksX6_looksAs_0 8 rfl rfl)
theorem dX6_looksAs_9 : decode cX6_looksAs 9 = .ok (.isub, 1) := dk_100 (dk_at dksX6_looksAs_0 9 rfl rfl)
theorem dX6_looksAs_10 : decode cX6_looksAs 10 = .ok (.iload_n 1, 1) := dk_27 (dk_at dksX6_looksAs_0 10 rfl rfl)
theorem dX6_looksAs_11 : decode cX6_looksAs 11 = .ok (.iastore, 1) := dk_79 (dk_at dksX6_looksAs_0 11 rfl rfl)
theorem dX6_looksAs_12 : decode cX6_looksAs 12 = .ok (.aload_n 0, 1) := dk_42 (dk_at dksX6_looksAs_0 12 rfl rfl)
theorem dX6_looksAs_13 : decode cX6_looksAs 13 = .ok (.getfield 79, 3) := dk_180 0 79 (dk_at dksX6_looksAs_0 13 rfl rfl)
theorem dX6_looksAs_16 : decode cX6_looksAs 16 = .ok (.aload_n 0, 1) := dk_42 (dk_at dksX6_looksAs_0 16 rfl rfl)
theorem dX6_looksAs_17 : decode cX6_looksAs 17 = .ok (.getfield 156, 3) := dk_180 0 156 (dk_at dksX6_looksAs_0 17 rfl rfl)
theorem dX6_looksAs_20 : decode cX6_looksAs 20 = .ok (.iconst 1, 1) := dk_4 (dk_at dksX6_looksAs_0 20 rfl rfl)
theorem dX6_looksAs_21 : decode cX6_looksAs 21 = .ok (.isub, 1) := dk_100 (dk_at dksX6_looksAs_0 21 rfl rfl)
theorem dX6_looksAs_22 : decode cX6_looksAs 22 = .ok (.iconst 0, 1) := dk_3 (dk_at dksX6_looksAs_0 22 rfl rfl)
theorem dX6_looksAs_23 : decode cX6_looksAs 23 = .ok (.iastore, 1) := dk_79 (dk_at dksX6_looksAs_0 23 rfl rfl)
theorem dX6_looksAs_24 : decode cX6_looksAs 24 = .ok (.return_, 1) := dk_177 (dk_at dksX6_looksAs_1 0 rfl rfl)
abbrev cX6_findsRecord : ByteArray := prog_25_method_32_code
def yX6_findsRecord : MethodName := ⟨RX6, "findsRecord", "(II)V"⟩
def dkwX6_findsRecord_7 : List UInt8 := [21, 4, 46, 96, 16, 6, 182, 0, 162, 177]
abbrev dktX6_findsRecord_7 : List UInt8 := dkwX6_findsRecord_7 ++ []
def dkwX6_findsRecord_6 : List UInt8 := [180, 0, 49, 21, 4, 46, 154, 0, 26, 42, 16, 10, 42, 180, 0, 25, 28, 46, 104, 42, 180, 0, 46]
abbrev dktX6_findsRecord_6 : List UInt8 := dkwX6_findsRecord_6 ++ dktX6_findsRecord_7
def dkwX6_findsRecord_5 : List UInt8 := [21, 5, 155, 0, 19, 42, 42, 180, 0, 52, 21, 4, 46, 21, 5, 182, 0, 210, 167, 0, 36, 42]
abbrev dktX6_findsRecord_5 : List UInt8 := dkwX6_findsRecord_5 ++ dktX6_findsRecord_6
def dkwX6_findsRecord_4 : List UInt8 := [180, 0, 156, 4, 100, 92, 46, 4, 96, 79, 42, 28, 42, 180, 0, 46, 21, 4, 46, 182, 0, 179, 54, 5]
abbrev dktX6_findsRecord_4 : List UInt8 := dkwX6_findsRecord_4 ++ dktX6_findsRecord_5
def dkwX6_findsRecord_3 : List UInt8 := [182, 0, 204, 54, 4, 21, 4, 156, 0, 10, 42, 27, 28, 182, 0, 207, 177, 42, 180, 0, 79, 42]
abbrev dktX6_findsRecord_3 : List UInt8 := dkwX6_findsRecord_3 ++ dktX6_findsRecord_4
def dkwX6_findsRecord_2 : List UInt8 := [177, 29, 154, 0, 18, 42, 180, 0, 82, 42, 180, 0, 156, 4, 100, 42, 180, 0, 159, 79, 42, 27, 29]
abbrev dktX6_findsRecord_2 : List UInt8 := dkwX6_findsRecord_2 ++ dktX6_findsRecord_3
def dkwX6_findsRecord_1 : List UInt8 := [159, 0, 25, 42, 89, 180, 0, 156, 4, 100, 181, 0, 156, 42, 42, 180, 0, 25, 28, 46, 8, 182, 0, 162]
abbrev dktX6_findsRecord_1 : List UInt8 := dkwX6_findsRecord_1 ++ dktX6_findsRecord_2
def dkwX6_findsRecord_0 : List UInt8 := [42, 180, 0, 79, 42, 180, 0, 156, 4, 100, 46, 62, 29, 154, 0, 35, 42, 180, 0, 13, 28, 46, 5]
abbrev dktX6_findsRecord_0 : List UInt8 := dkwX6_findsRecord_0 ++ dktX6_findsRecord_1
theorem dksX6_findsRecord_0 : cX6_findsRecord.data.toList.drop 0 = dktX6_findsRecord_0 := by decide +kernel
theorem dksX6_findsRecord_1 : cX6_findsRecord.data.toList.drop 23 = dktX6_findsRecord_1 := dk_seg dksX6_findsRecord_0 23 rfl rfl
theorem dksX6_findsRecord_2 : cX6_findsRecord.data.toList.drop 47 = dktX6_findsRecord_2 := dk_seg dksX6_findsRecord_1 24 rfl rfl
theorem dksX6_findsRecord_3 : cX6_findsRecord.data.toList.drop 70 = dktX6_findsRecord_3 := dk_seg dksX6_findsRecord_2 23 rfl rfl
theorem dksX6_findsRecord_4 : cX6_findsRecord.data.toList.drop 92 = dktX6_findsRecord_4 := dk_seg dksX6_findsRecord_3 22 rfl rfl
theorem dksX6_findsRecord_5 : cX6_findsRecord.data.toList.drop 116 = dktX6_findsRecord_5 := dk_seg dksX6_findsRecord_4 24 rfl rfl
theorem dksX6_findsRecord_6 : cX6_findsRecord.data.toList.drop 138 = dktX6_findsRecord_6 := dk_seg dksX6_findsRecord_5 22 rfl rfl
theorem dksX6_findsRecord_7 : cX6_findsRecord.data.toList.drop 161 = dktX6_findsRecord_7 := dk_seg dksX6_findsRecord_6 23 rfl rfl
theorem dX6_findsRecord_0 : decode cX6_findsRecord 0 = .ok (.aload_n 0, 1) := dk_42 (dk_at dksX6_findsRecord_0 0 rfl rfl)
theorem dX6_findsRecord_1 : decode cX6_findsRecord 1 = .ok (.getfield 79, 3) := dk_180 0 79 (dk_at dksX6_findsRecord_0 1 rfl rfl)
theorem dX6_findsRecord_4 : decode cX6_findsRecord 4 = .ok (.aload_n 0, 1) := dk_42 (dk_at dksX6_findsRecord_0 4 rfl rfl)
theorem dX6_findsRecord_5 : decode cX6_findsRecord 5 = .ok (.getfield 156, 3) := dk_180 0 156 (dk_at dksX6_findsRecord_0 5 rfl rfl)
theorem dX6_findsRecord_8 : decode cX6_findsRecord 8 = .ok (.iconst 1, 1) := dk_4 (dk_at dksX6_findsRecord_0 8 rfl rfl)
theorem dX6_findsRecord_9 : decode cX6_findsRecord 9 = .ok (.isub, 1) := dk_100 (dk_at dksX6_findsRecord_0 9 rfl rfl)
theorem dX6_findsRecord_10 : decode cX6_findsRecord 10 = .ok (.iaload, 1) := dk_46 (dk_at dksX6_findsRecord_0 10 rfl rfl)
theorem dX6_findsRecord_11 : decode cX6_findsRecord 11 = .ok (.istore_n 3, 1) := dk_62 (dk_at dksX6_findsRecord_0 11 rfl rfl)
theorem dX6_findsRecord_12 : decode cX6_findsRecord 12 = .ok (.iload_n 3, 1) := dk_29 (dk_at dksX6_findsRecord_0 12 rfl rfl)
theorem dX6_findsRecord_13 : decode cX6_findsRecord 13 = .ok (.ifCond .ne 35, 3) := dk_154 0 35 (dk_at dksX6_findsRecord_0 13 rfl rfl)
theorem dX6_findsRecord_16 : decode cX6_findsRecord 16 = .ok (.aload_n 0, 1) := dk_42 (dk_at dksX6_findsRecord_0 16 rfl rfl)
theorem dX6_findsRecord_17 : decode cX6_findsRecord 17 = .ok (.getfield 13, 3) := dk_180 0 13 (dk_at dksX6_findsRecord_0 17 rfl rfl)
theorem dX6_findsRecord_20 : decode cX6_findsRecord 20 = .ok (.iload_n 2, 1) := dk_28 (dk_at dksX6_findsRecord_0 20 rfl rfl)
theorem dX6_findsRecord_21 : decode cX6_findsRecord 21 = .ok (.iaload, 1) := dk_46 (dk_at dksX6_findsRecord_0 21 rfl rfl)
theorem dX6_findsRecord_22 : decode cX6_findsRecord 22 = .ok (.iconst 2, 1) := dk_5 (dk_at dksX6_findsRecord_0 22 rfl rfl)
theorem dX6_findsRecord_23 : decode cX6_findsRecord 23 = .ok (.if_icmp .eq 25, 3) := dk_159 0 25 (dk_at dksX6_findsRecord_1 0 rfl rfl)
theorem dX6_findsRecord_26 : decode cX6_findsRecord 26 = .ok (.aload_n 0, 1) := dk_42 (dk_at dksX6_findsRecord_1 3 rfl rfl)
theorem dX6_findsRecord_27 : decode cX6_findsRecord 27 = .ok (.dup, 1) := dk_89 (dk_at dksX6_findsRecord_1 4 rfl rfl)
theorem dX6_findsRecord_28 : decode cX6_findsRecord 28 = .ok (.getfield 156, 3) := dk_180 0 156 (dk_at dksX6_findsRecord_1 5 rfl rfl)
theorem dX6_findsRecord_31 : decode cX6_findsRecord 31 = .ok (.iconst 1, 1) := dk_4 (dk_at dksX6_findsRecord_1 8 rfl rfl)
theorem dX6_findsRecord_32 : decode cX6_findsRecord 32 = .ok (.isub, 1) := dk_100 (dk_at dksX6_findsRecord_1 9 rfl rfl)
theorem dX6_findsRecord_33 : decode cX6_findsRecord 33 = .ok (.putfield 156, 3) := dk_181 0 156 (dk_at dksX6_findsRecord_1 10 rfl rfl)
theorem dX6_findsRecord_36 : decode cX6_findsRecord 36 = .ok (.aload_n 0, 1) := dk_42 (dk_at dksX6_findsRecord_1 13 rfl rfl)
theorem dX6_findsRecord_37 : decode cX6_findsRecord 37 = .ok (.aload_n 0, 1) := dk_42 (dk_at dksX6_findsRecord_1 14 rfl rfl)
theorem dX6_findsRecord_38 : decode cX6_findsRecord 38 = .ok (.getfield 25, 3) := dk_180 0 25 (dk_at dksX6_findsRecord_1 15 rfl rfl)
theorem dX6_findsRecord_41 : decode cX6_findsRecord 41 = .ok (.iload_n 2, 1) := dk_28 (dk_at dksX6_findsRecord_1 18 rfl rfl)
theorem dX6_findsRecord_42 : decode cX6_findsRecord 42 = .ok (.iaload, 1) := dk_46 (dk_at dksX6_findsRecord_1 19 rfl rfl)
theorem dX6_findsRecord_43 : decode cX6_findsRecord 43 = .ok (.iconst 5, 1) := dk_8 (dk_at dksX6_findsRecord_1 20 rfl rfl)
theorem dX6_findsRecord_44 : decode cX6_findsRecord 44 = .ok (.invokevirtual 162, 3) := dk_182 0 162 (dk_at dksX6_findsRecord_1 21 rfl rfl)
theorem dX6_findsRecord_47 : decode cX6_findsRecord 47 = .ok (.return_, 1) := dk_177 (dk_at dksX6_findsRecord_2 0 rfl rfl)
theorem dX6_findsRecord_48 : decode cX6_findsRecord 48 = .ok (.iload_n 3, 1) := dk_29 (dk_at dksX6_findsRecord_2 1 rfl rfl)
theorem dX6_findsRecord_49 : decode cX6_findsRecord 49 = .ok (.ifCond .ne 18, 3) := dk_154 0 18 (dk_at dksX6_findsRecord_2 2 rfl rfl)
theorem dX6_findsRecord_52 : decode cX6_findsRecord 52 = .ok (.aload_n 0, 1) := dk_42 (dk_at dksX6_findsRecord_2 5 rfl rfl)
theorem dX6_findsRecord_53 : decode cX6_findsRecord 53 = .ok (.getfield 82, 3) := dk_180 0 82 (dk_at dksX6_findsRecord_2 6 rfl rfl)
theorem dX6_findsRecord_56 : decode cX6_findsRecord 56 = .ok (.aload_n 0, 1) := dk_42 (dk_at dksX6_findsRecord_2 9 rfl rfl)
theorem dX6_findsRecord_57 : decode cX6_findsRecord 57 = .ok (.getfield 156, 3) := dk_180 0 156 (dk_at dksX6_findsRecord_2 10 rfl rfl)
theorem dX6_findsRecord_60 : decode cX6_findsRecord 60 = .ok (.iconst 1, 1) := dk_4 (dk_at dksX6_findsRecord_2 13 rfl rfl)
theorem dX6_findsRecord_61 : decode cX6_findsRecord 61 = .ok (.isub, 1) := dk_100 (dk_at dksX6_findsRecord_2 14 rfl rfl)
theorem dX6_findsRecord_62 : decode cX6_findsRecord 62 = .ok (.aload_n 0, 1) := dk_42 (dk_at dksX6_findsRecord_2 15 rfl rfl)
theorem dX6_findsRecord_63 : decode cX6_findsRecord 63 = .ok (.getfield 159, 3) := dk_180 0 159 (dk_at dksX6_findsRecord_2 16 rfl rfl)
theorem dX6_findsRecord_66 : decode cX6_findsRecord 66 = .ok (.iastore, 1) := dk_79 (dk_at dksX6_findsRecord_2 19 rfl rfl)
theorem dX6_findsRecord_67 : decode cX6_findsRecord 67 = .ok (.aload_n 0, 1) := dk_42 (dk_at dksX6_findsRecord_2 20 rfl rfl)
theorem dX6_findsRecord_68 : decode cX6_findsRecord 68 = .ok (.iload_n 1, 1) := dk_27 (dk_at dksX6_findsRecord_2 21 rfl rfl)
theorem dX6_findsRecord_69 : decode cX6_findsRecord 69 = .ok (.iload_n 3, 1) := dk_29 (dk_at dksX6_findsRecord_2 22 rfl rfl)
theorem dX6_findsRecord_70 : decode cX6_findsRecord 70 = .ok (.invokevirtual 204, 3) := dk_182 0 204 (dk_at dksX6_findsRecord_3 0 rfl rfl)
theorem dX6_findsRecord_73 : decode cX6_findsRecord 73 = .ok (.istore 4, 2) := dk_54 4 (dk_at dksX6_findsRecord_3 3 rfl rfl)
theorem dX6_findsRecord_75 : decode cX6_findsRecord 75 = .ok (.iload 4, 2) := dk_21 4 (dk_at dksX6_findsRecord_3 5 rfl rfl)
theorem dX6_findsRecord_77 : decode cX6_findsRecord 77 = .ok (.ifCond .ge 10, 3) := dk_156 0 10 (dk_at dksX6_findsRecord_3 7 rfl rfl)
theorem dX6_findsRecord_80 : decode cX6_findsRecord 80 = .ok (.aload_n 0, 1) := dk_42 (dk_at dksX6_findsRecord_3 10 rfl rfl)
theorem dX6_findsRecord_81 : decode cX6_findsRecord 81 = .ok (.iload_n 1, 1) := dk_27 (dk_at dksX6_findsRecord_3 11 rfl rfl)
theorem dX6_findsRecord_82 : decode cX6_findsRecord 82 = .ok (.iload_n 2, 1) := dk_28 (dk_at dksX6_findsRecord_3 12 rfl rfl)
theorem dX6_findsRecord_83 : decode cX6_findsRecord 83 = .ok (.invokevirtual 207, 3) := dk_182 0 207 (dk_at dksX6_findsRecord_3 13 rfl rfl)
theorem dX6_findsRecord_86 : decode cX6_findsRecord 86 = .ok (.return_, 1) := dk_177 (dk_at dksX6_findsRecord_3 16 rfl rfl)
theorem dX6_findsRecord_87 : decode cX6_findsRecord 87 = .ok (.aload_n 0, 1) := dk_42 (dk_at dksX6_findsRecord_3 17 rfl rfl)
theorem dX6_findsRecord_88 : decode cX6_findsRecord 88 = .ok (.getfield 79, 3) := dk_180 0 79 (dk_at dksX6_findsRecord_3 18 rfl rfl)
theorem dX6_findsRecord_91 : decode cX6_findsRecord 91 = .ok (.aload_n 0, 1) := dk_42 (dk_at dksX6_findsRecord_3 21 rfl rfl)
theorem dX6_findsRecord_92 : decode cX6_findsRecord 92 = .ok (.getfield 156, 3) := dk_180 0 156 (dk_at dksX6_findsRecord_4 0 rfl rfl)
theorem dX6_findsRecord_95 : decode cX6_findsRecord 95 = .ok (.iconst 1, 1) := dk_4 (dk_at dksX6_findsRecord_4 3 rfl rfl)
theorem dX6_findsRecord_96 : decode cX6_findsRecord 96 = .ok (.isub, 1) := dk_100 (dk_at dksX6_findsRecord_4 4 rfl rfl)
theorem dX6_findsRecord_97 : decode cX6_findsRecord 97 = .ok (.dup2, 1) := dk_92 (dk_at dksX6_findsRecord_4 5 rfl rfl)
theorem dX6_findsRecord_98 : decode cX6_findsRecord 98 = .ok (.iaload, 1) := dk_46 (dk_at dksX6_findsRecord_4 6 rfl rfl)
theorem dX6_findsRecord_99 : decode cX6_findsRecord 99 = .ok (.iconst 1, 1) := dk_4 (dk_at dksX6_findsRecord_4 7 rfl rfl)
theorem dX6_findsRecord_100 : decode cX6_findsRecord 100 = .ok (.iadd, 1) := dk_96 (dk_at dksX6_findsRecord_4 8 rfl rfl)
theorem dX6_findsRecord_101 : decode cX6_findsRecord 101 = .ok (.iastore, 1) := dk_79 (dk_at dksX6_findsRecord_4 9 rfl rfl)
theorem dX6_findsRecord_102 : decode cX6_findsRecord 102 = .ok (.aload_n 0, 1) := dk_42 (dk_at dksX6_findsRecord_4 10 rfl rfl)
theorem dX6_findsRecord_103 : decode cX6_findsRecord 103 = .ok (.iload_n 2, 1) := dk_28 (dk_at dksX6_findsRecord_4 11 rfl rfl)
theorem dX6_findsRecord_104 : decode cX6_findsRecord 104 = .ok (.aload_n 0, 1) := dk_42 (dk_at dksX6_findsRecord_4 12 rfl rfl)
theorem dX6_findsRecord_105 : decode cX6_findsRecord 105 = .ok (.getfield 46, 3) := dk_180 0 46 (dk_at dksX6_findsRecord_4 13 rfl rfl)
theorem dX6_findsRecord_108 : decode cX6_findsRecord 108 = .ok (.iload 4, 2) := dk_21 4 (dk_at dksX6_findsRecord_4 16 rfl rfl)
theorem dX6_findsRecord_110 : decode cX6_findsRecord 110 = .ok (.iaload, 1) := dk_46 (dk_at dksX6_findsRecord_4 18 rfl rfl)
theorem dX6_findsRecord_111 : decode cX6_findsRecord 111 = .ok (.invokevirtual 179, 3) := dk_182 0 179 (dk_at dksX6_findsRecord_4 19 rfl rfl)
theorem dX6_findsRecord_114 : decode cX6_findsRecord 114 = .ok (.istore 5, 2) := dk_54 5 (dk_at dksX6_findsRecord_4 22 rfl rfl)
theorem dX6_findsRecord_116 : decode cX6_findsRecord 116 = .ok (.iload 5, 2) := dk_21 5 (dk_at dksX6_findsRecord_5 0 rfl rfl)
theorem dX6_findsRecord_118 : decode cX6_findsRecord 118 = .ok (.ifCond .lt 19, 3) := dk_155 0 19 (dk_at dksX6_findsRecord_5 2 rfl rfl)
theorem dX6_findsRecord_121 : decode cX6_findsRecord 121 = .ok (.aload_n 0, 1) := dk_42 (dk_at dksX6_findsRecord_5 5 rfl rfl)
theorem dX6_findsRecord_122 : decode cX6_findsRecord 122 = .ok (.aload_n 0, 1) := dk_42 (dk_at dksX6_findsRecord_5 6 rfl rfl)
theorem dX6_findsRecord_123 : decode cX6_findsRecord 123 = .ok (.getfield 52, 3) := dk_180 0 52 (dk_at dksX6_findsRecord_5 7 rfl rfl)
theorem dX6_findsRecord_126 : decode cX6_findsRecord 126 = .ok (.iload 4, 2) := dk_21 4 (dk_at dksX6_findsRecord_5 10 rfl rfl)
theorem dX6_findsRecord_128 : decode cX6_findsRecord 128 = .ok (.iaload, 1) := dk_46 (dk_at dksX6_findsRecord_5 12 rfl rfl)
theorem dX6_findsRecord_129 : decode cX6_findsRecord 129 = .ok (.iload 5, 2) := dk_21 5 (dk_at dksX6_findsRecord_5 13 rfl rfl)
theorem dX6_findsRecord_131 : decode cX6_findsRecord 131 = .ok (.invokevirtual 210, 3) := dk_182 0 210 (dk_at dksX6_findsRecord_5 15 rfl rfl)
theorem dX6_findsRecord_134 : decode cX6_findsRecord 134 = .ok (.goto 36, 3) := dk_167 0 36 (dk_at dksX6_findsRecord_5 18 rfl rfl)
theorem dX6_findsRecord_137 : decode cX6_findsRecord 137 = .ok (.aload_n 0, 1) := dk_42 (dk_at dksX6_findsRecord_5 21 rfl rfl)
theorem dX6_findsRecord_138 : decode cX6_findsRecord 138 = .ok (.getfield 49, 3) := dk_180 0 49 (dk_at dksX6_findsRecord_6 0 rfl rfl)
theorem dX6_findsRecord_141 : decode cX6_findsRecord 141 = .ok (.iload 4, 2) := dk_21 4 (dk_at dksX6_findsRecord_6 3 rfl rfl)
theorem dX6_findsRecord_143 : decode cX6_findsRecord 143 = .ok (.iaload, 1) := dk_46 (dk_at dksX6_findsRecord_6 5 rfl rfl)
theorem dX6_findsRecord_144 : decode cX6_findsRecord 144 = .ok (.ifCond .ne 26, 3) := dk_154 0 26 (dk_at dksX6_findsRecord_6 6 rfl rfl)
theorem dX6_findsRecord_147 : decode cX6_findsRecord 147 = .ok (.aload_n 0, 1) := dk_42 (dk_at dksX6_findsRecord_6 9 rfl rfl)
theorem dX6_findsRecord_148 : decode cX6_findsRecord 148 = .ok (.bipush 10, 2) := dk_16 10 (dk_at dksX6_findsRecord_6 10 rfl rfl)
theorem dX6_findsRecord_150 : decode cX6_findsRecord 150 = .ok (.aload_n 0, 1) := dk_42 (dk_at dksX6_findsRecord_6 12 rfl rfl)
theorem dX6_findsRecord_151 : decode cX6_findsRecord 151 = .ok (.getfield 25, 3) := dk_180 0 25 (dk_at dksX6_findsRecord_6 13 rfl rfl)
theorem dX6_findsRecord_154 : decode cX6_findsRecord 154 = .ok (.iload_n 2, 1) := dk_28 (dk_at dksX6_findsRecord_6 16 rfl rfl)
theorem dX6_findsRecord_155 : decode cX6_findsRecord 155 = .ok (.iaload, 1) := dk_46 (dk_at dksX6_findsRecord_6 17 rfl rfl)
theorem dX6_findsRecord_156 : decode cX6_findsRecord 156 = .ok (.imul, 1) := dk_104 (dk_at dksX6_findsRecord_6 18 rfl rfl)
theorem dX6_findsRecord_157 : decode cX6_findsRecord 157 = .ok (.aload_n 0, 1) := dk_42 (dk_at dksX6_findsRecord_6 19 rfl rfl)
theorem dX6_findsRecord_158 : decode cX6_findsRecord 158 = .ok (.getfield 46, 3) := dk_180 0 46 (dk_at dksX6_findsRecord_6 20 rfl rfl)
theorem dX6_findsRecord_161 : decode cX6_findsRecord 161 = .ok (.iload 4, 2) := dk_21 4 (dk_at dksX6_findsRecord_7 0 rfl rfl)
theorem dX6_findsRecord_163 : decode cX6_findsRecord 163 = .ok (.iaload, 1) := dk_46 (dk_at dksX6_findsRecord_7 2 rfl rfl)
theorem dX6_findsRecord_164 : decode cX6_findsRecord 164 = .ok (.iadd, 1) := dk_96 (dk_at dksX6_findsRecord_7 3 rfl rfl)
theorem dX6_findsRecord_165 : decode cX6_findsRecord 165 = .ok (.bipush 6, 2) := dk_16 6 (dk_at dksX6_findsRecord_7 4 rfl rfl)
theorem dX6_findsRecord_167 : decode cX6_findsRecord 167 = .ok (.invokevirtual 162, 3) := dk_182 0 162 (dk_at dksX6_findsRecord_7 6 rfl rfl)
theorem dX6_findsRecord_170 : decode cX6_findsRecord 170 = .ok (.return_, 1) := dk_177 (dk_at dksX6_findsRecord_7 9 rfl rfl)
abbrev cX6_fieldAt : ByteArray := prog_25_method_25_code
def yX6_fieldAt : MethodName := ⟨RX6, "fieldAt", "(II)I"⟩
def dkwX6_fieldAt_2 : List UInt8 := [172]
abbrev dktX6_fieldAt_2 : List UInt8 := dkwX6_fieldAt_2 ++ []
def dkwX6_fieldAt_1 : List UInt8 := [159, 0, 6, 167, 0, 13, 29, 154, 0, 6, 21, 4, 172, 132, 3, 255, 132, 4, 1, 167, 255, 220, 16, 247]
abbrev dktX6_fieldAt_1 : List UInt8 := dkwX6_fieldAt_1 ++ dktX6_fieldAt_2
def dkwX6_fieldAt_0 : List UInt8 := [28, 62, 3, 54, 4, 21, 4, 42, 180, 0, 169, 162, 0, 33, 42, 180, 0, 43, 21, 4, 46, 27]
abbrev dktX6_fieldAt_0 : List UInt8 := dkwX6_fieldAt_0 ++ dktX6_fieldAt_1
theorem dksX6_fieldAt_0 : cX6_fieldAt.data.toList.drop 0 = dktX6_fieldAt_0 := by decide +kernel
theorem dksX6_fieldAt_1 : cX6_fieldAt.data.toList.drop 22 = dktX6_fieldAt_1 := dk_seg dksX6_fieldAt_0 22 rfl rfl
theorem dksX6_fieldAt_2 : cX6_fieldAt.data.toList.drop 46 = dktX6_fieldAt_2 := dk_seg dksX6_fieldAt_1 24 rfl rfl
theorem dX6_fieldAt_0 : decode cX6_fieldAt 0 = .ok (.iload_n 2, 1) := dk_28 (dk_at dksX6_fieldAt_0 0 rfl rfl)
theorem dX6_fieldAt_1 : decode cX6_fieldAt 1 = .ok (.istore_n 3, 1) := dk_62 (dk_at dksX6_fieldAt_0 1 rfl rfl)
theorem dX6_fieldAt_2 : decode cX6_fieldAt 2 = .ok (.iconst 0, 1) := dk_3 (dk_at dksX6_fieldAt_0 2 rfl rfl)
theorem dX6_fieldAt_3 : decode cX6_fieldAt 3 = .ok (.istore 4, 2) := dk_54 4 (dk_at dksX6_fieldAt_0 3 rfl rfl)
theorem dX6_fieldAt_5 : decode cX6_fieldAt 5 = .ok (.iload 4, 2) := dk_21 4 (dk_at dksX6_fieldAt_0 5 rfl rfl)
theorem dX6_fieldAt_7 : decode cX6_fieldAt 7 = .ok (.aload_n 0, 1) := dk_42 (dk_at dksX6_fieldAt_0 7 rfl rfl)
theorem dX6_fieldAt_8 : decode cX6_fieldAt 8 = .ok (.getfield 169, 3) := dk_180 0 169 (dk_at dksX6_fieldAt_0 8 rfl rfl)
theorem dX6_fieldAt_11 : decode cX6_fieldAt 11 = .ok (.if_icmp .ge 33, 3) := dk_162 0 33 (dk_at dksX6_fieldAt_0 11 rfl rfl)
theorem dX6_fieldAt_14 : decode cX6_fieldAt 14 = .ok (.aload_n 0, 1) := dk_42 (dk_at dksX6_fieldAt_0 14 rfl rfl)
theorem dX6_fieldAt_15 : decode cX6_fieldAt 15 = .ok (.getfield 43, 3) := dk_180 0 43 (dk_at dksX6_fieldAt_0 15 rfl rfl)
theorem dX6_fieldAt_18 : decode cX6_fieldAt 18 = .ok (.iload 4, 2) := dk_21 4 (dk_at dksX6_fieldAt_0 18 rfl rfl)
theorem dX6_fieldAt_20 : decode cX6_fieldAt 20 = .ok (.iaload, 1) := dk_46 (dk_at dksX6_fieldAt_0 20 rfl rfl)
theorem dX6_fieldAt_21 : decode cX6_fieldAt 21 = .ok (.iload_n 1, 1) := dk_27 (dk_at dksX6_fieldAt_0 21 rfl rfl)
theorem dX6_fieldAt_22 : decode cX6_fieldAt 22 = .ok (.if_icmp .eq 6, 3) := dk_159 0 6 (dk_at dksX6_fieldAt_1 0 rfl rfl)
theorem dX6_fieldAt_25 : decode cX6_fieldAt 25 = .ok (.goto 13, 3) := dk_167 0 13 (dk_at dksX6_fieldAt_1 3 rfl rfl)
theorem dX6_fieldAt_28 : decode cX6_fieldAt 28 = .ok (.iload_n 3, 1) := dk_29 (dk_at dksX6_fieldAt_1 6 rfl rfl)
theorem dX6_fieldAt_29 : decode cX6_fieldAt 29 = .ok (.ifCond .ne 6, 3) := dk_154 0 6 (dk_at dksX6_fieldAt_1 7 rfl rfl)
theorem dX6_fieldAt_32 : decode cX6_fieldAt 32 = .ok (.iload 4, 2) := dk_21 4 (dk_at dksX6_fieldAt_1 10 rfl rfl)
theorem dX6_fieldAt_34 : decode cX6_fieldAt 34 = .ok (.ireturn, 1) := dk_172 (dk_at dksX6_fieldAt_1 12 rfl rfl)
theorem dX6_fieldAt_35 : decode cX6_fieldAt 35 = .ok (.iinc 3 (-1), 3) := dk_132 3 255 (dk_at dksX6_fieldAt_1 13 rfl rfl)
theorem dX6_fieldAt_38 : decode cX6_fieldAt 38 = .ok (.iinc 4 1, 3) := dk_132 4 1 (dk_at dksX6_fieldAt_1 16 rfl rfl)
theorem dX6_fieldAt_41 : decode cX6_fieldAt 41 = .ok (.goto (-36), 3) := dk_167 255 220 (dk_at dksX6_fieldAt_1 19 rfl rfl)
theorem dX6_fieldAt_44 : decode cX6_fieldAt 44 = .ok (.bipush (-9), 2) := dk_16 247 (dk_at dksX6_fieldAt_1 22 rfl rfl)
theorem dX6_fieldAt_46 : decode cX6_fieldAt 46 = .ok (.ireturn, 1) := dk_172 (dk_at dksX6_fieldAt_2 0 rfl rfl)
abbrev cX6_endsRecord : ByteArray := prog_25_method_31_code
def yX6_endsRecord : MethodName := ⟨RX6, "endsRecord", "(II)V"⟩
def dkwX6_endsRecord_2 : List UInt8 := [160, 0, 11, 42, 21, 4, 28, 29, 182, 0, 200, 132, 4, 1, 167, 255, 225, 177]
abbrev dktX6_endsRecord_2 : List UInt8 := dkwX6_endsRecord_2 ++ []
def dkwX6_endsRecord_1 : List UInt8 := [28, 182, 0, 194, 3, 54, 4, 21, 4, 42, 180, 0, 197, 162, 0, 28, 42, 180, 0, 55, 21, 4, 46, 27]
abbrev dktX6_endsRecord_1 : List UInt8 := dkwX6_endsRecord_1 ++ dktX6_endsRecord_2
def dkwX6_endsRecord_0 : List UInt8 := [42, 180, 0, 82, 42, 180, 0, 156, 4, 100, 46, 62, 42, 89, 180, 0, 156, 4, 100, 181, 0, 156, 42, 27]
abbrev dktX6_endsRecord_0 : List UInt8 := dkwX6_endsRecord_0 ++ dktX6_endsRecord_1
theorem dksX6_endsRecord_0 : cX6_endsRecord.data.toList.drop 0 = dktX6_endsRecord_0 := by decide +kernel
theorem dksX6_endsRecord_1 : cX6_endsRecord.data.toList.drop 24 = dktX6_endsRecord_1 := dk_seg dksX6_endsRecord_0 24 rfl rfl
theorem dksX6_endsRecord_2 : cX6_endsRecord.data.toList.drop 48 = dktX6_endsRecord_2 := dk_seg dksX6_endsRecord_1 24 rfl rfl
theorem dX6_endsRecord_0 : decode cX6_endsRecord 0 = .ok (.aload_n 0, 1) := dk_42 (dk_at dksX6_endsRecord_0 0 rfl rfl)
theorem dX6_endsRecord_1 : decode cX6_endsRecord 1 = .ok (.getfield 82, 3) := dk_180 0 82 (dk_at dksX6_endsRecord_0 1 rfl rfl)
theorem dX6_endsRecord_4 : decode cX6_endsRecord 4 = .ok (.aload_n 0, 1) := dk_42 (dk_at dksX6_endsRecord_0 4 rfl rfl)
theorem dX6_endsRecord_5 : decode cX6_endsRecord 5 = .ok (.getfield 156, 3) := dk_180 0 156 (dk_at dksX6_endsRecord_0 5 rfl rfl)
theorem dX6_endsRecord_8 : decode cX6_endsRecord 8 = .ok (.iconst 1, 1) := dk_4 (dk_at dksX6_endsRecord_0 8 rfl rfl)
theorem dX6_endsRecord_9 : decode cX6_endsRecord 9 = .ok (.isub, 1) := dk_100 (dk_at dksX6_endsRecord_0 9 rfl rfl)
theorem dX6_endsRecord_10 : decode cX6_endsRecord 10 = .ok (.iaload, 1) := dk_46 (dk_at dksX6_endsRecord_0 10 rfl rfl)
theorem dX6_endsRecord_11 : decode cX6_endsRecord 11 = .ok (.istore_n 3, 1) := dk_62 (dk_at dksX6_endsRecord_0 11 rfl rfl)
theorem dX6_endsRecord_12 : decode cX6_endsRecord 12 = .ok (.aload_n 0, 1) := dk_42 (dk_at dksX6_endsRecord_0 12 rfl rfl)
theorem dX6_endsRecord_13 : decode cX6_endsRecord 13 = .ok (.dup, 1) := dk_89 (dk_at dksX6_endsRecord_0 13 rfl rfl)
theorem dX6_endsRecord_14 : decode cX6_endsRecord 14 = .ok (.getfield 156, 3) := dk_180 0 156 (dk_at dksX6_endsRecord_0 14 rfl rfl)
theorem dX6_endsRecord_17 : decode cX6_endsRecord 17 = .ok (.iconst 1, 1) := dk_4 (dk_at dksX6_endsRecord_0 17 rfl rfl)
theorem dX6_endsRecord_18 : decode cX6_endsRecord 18 = .ok (.isub, 1) := dk_100 (dk_at dksX6_endsRecord_0 18 rfl rfl)
theorem dX6_endsRecord_19 : decode cX6_endsRecord 19 = .ok (.putfield 156, 3) := dk_181 0 156 (dk_at dksX6_endsRecord_0 19 rfl rfl)
theorem dX6_endsRecord_22 : decode cX6_endsRecord 22 = .ok (.aload_n 0, 1) := dk_42 (dk_at dksX6_endsRecord_0 22 rfl rfl)
theorem dX6_endsRecord_23 : decode cX6_endsRecord 23 = .ok (.iload_n 1, 1) := dk_27 (dk_at dksX6_endsRecord_0 23 rfl rfl)
theorem dX6_endsRecord_24 : decode cX6_endsRecord 24 = .ok (.iload_n 2, 1) := dk_28 (dk_at dksX6_endsRecord_1 0 rfl rfl)
theorem dX6_endsRecord_25 : decode cX6_endsRecord 25 = .ok (.invokevirtual 194, 3) := dk_182 0 194 (dk_at dksX6_endsRecord_1 1 rfl rfl)
theorem dX6_endsRecord_28 : decode cX6_endsRecord 28 = .ok (.iconst 0, 1) := dk_3 (dk_at dksX6_endsRecord_1 4 rfl rfl)
theorem dX6_endsRecord_29 : decode cX6_endsRecord 29 = .ok (.istore 4, 2) := dk_54 4 (dk_at dksX6_endsRecord_1 5 rfl rfl)
theorem dX6_endsRecord_31 : decode cX6_endsRecord 31 = .ok (.iload 4, 2) := dk_21 4 (dk_at dksX6_endsRecord_1 7 rfl rfl)
theorem dX6_endsRecord_33 : decode cX6_endsRecord 33 = .ok (.aload_n 0, 1) := dk_42 (dk_at dksX6_endsRecord_1 9 rfl rfl)
theorem dX6_endsRecord_34 : decode cX6_endsRecord 34 = .ok (.getfield 197, 3) := dk_180 0 197 (dk_at dksX6_endsRecord_1 10 rfl rfl)
theorem dX6_endsRecord_37 : decode cX6_endsRecord 37 = .ok (.if_icmp .ge 28, 3) := dk_162 0 28 (dk_at dksX6_endsRecord_1 13 rfl rfl)
theorem dX6_endsRecord_40 : decode cX6_endsRecord 40 = .ok (.aload_n 0, 1) := dk_42 (dk_at dksX6_endsRecord_1 16 rfl rfl)
theorem dX6_endsRecord_41 : decode cX6_endsRecord 41 = .ok (.getfield 55, 3) := dk_180 0 55 (dk_at dksX6_endsRecord_1 17 rfl rfl)
theorem dX6_endsRecord_44 : decode cX6_endsRecord 44 = .ok (.iload 4, 2) := dk_21 4 (dk_at dksX6_endsRecord_1 20 rfl rfl)
theorem dX6_endsRecord_46 : decode cX6_endsRecord 46 = .ok (.iaload, 1) := dk_46 (dk_at dksX6_endsRecord_1 22 rfl rfl)
theorem dX6_endsRecord_47 : decode cX6_endsRecord 47 = .ok (.iload_n 1, 1) := dk_27 (dk_at dksX6_endsRecord_1 23 rfl rfl)
theorem dX6_endsRecord_48 : decode cX6_endsRecord 48 = .ok (.if_icmp .ne 11, 3) := dk_160 0 11 (dk_at dksX6_endsRecord_2 0 rfl rfl)
theorem dX6_endsRecord_51 : decode cX6_endsRecord 51 = .ok (.aload_n 0, 1) := dk_42 (dk_at dksX6_endsRecord_2 3 rfl rfl)
theorem dX6_endsRecord_52 : decode cX6_endsRecord 52 = .ok (.iload 4, 2) := dk_21 4 (dk_at dksX6_endsRecord_2 4 rfl rfl)
theorem dX6_endsRecord_54 : decode cX6_endsRecord 54 = .ok (.iload_n 2, 1) := dk_28 (dk_at dksX6_endsRecord_2 6 rfl rfl)
theorem dX6_endsRecord_55 : decode cX6_endsRecord 55 = .ok (.iload_n 3, 1) := dk_29 (dk_at dksX6_endsRecord_2 7 rfl rfl)
theorem dX6_endsRecord_56 : decode cX6_endsRecord 56 = .ok (.invokevirtual 200, 3) := dk_182 0 200 (dk_at dksX6_endsRecord_2 8 rfl rfl)
theorem dX6_endsRecord_59 : decode cX6_endsRecord 59 = .ok (.iinc 4 1, 3) := dk_132 4 1 (dk_at dksX6_endsRecord_2 11 rfl rfl)
theorem dX6_endsRecord_62 : decode cX6_endsRecord 62 = .ok (.goto (-31), 3) := dk_167 255 225 (dk_at dksX6_endsRecord_2 14 rfl rfl)
theorem dX6_endsRecord_65 : decode cX6_endsRecord 65 = .ok (.return_, 1) := dk_177 (dk_at dksX6_endsRecord_2 17 rfl rfl)
abbrev cX6_findsMore : ByteArray := prog_25_method_27_code
def yX6_findsMore : MethodName := ⟨RX6, "findsMore", "(II)V"⟩
def dkwX6_findsMore_2 : List UInt8 := [182, 0, 162, 132, 3, 1, 167, 255, 207, 177]
abbrev dktX6_findsMore_2 : List UInt8 := dkwX6_findsMore_2 ++ []
def dkwX6_findsMore_1 : List UInt8 := [180, 0, 19, 21, 4, 46, 182, 0, 172, 154, 0, 16, 42, 42, 180, 0, 25, 21, 4, 46, 16, 7]
abbrev dktX6_findsMore_1 : List UInt8 := dkwX6_findsMore_1 ++ dktX6_findsMore_2
def dkwX6_findsMore_0 : List UInt8 := [3, 62, 29, 42, 180, 0, 16, 28, 46, 162, 0, 45, 42, 28, 29, 182, 0, 138, 54, 4, 42, 27, 42]
abbrev dktX6_findsMore_0 : List UInt8 := dkwX6_findsMore_0 ++ dktX6_findsMore_1
theorem dksX6_findsMore_0 : cX6_findsMore.data.toList.drop 0 = dktX6_findsMore_0 := by decide +kernel
theorem dksX6_findsMore_1 : cX6_findsMore.data.toList.drop 23 = dktX6_findsMore_1 := dk_seg dksX6_findsMore_0 23 rfl rfl
theorem dksX6_findsMore_2 : cX6_findsMore.data.toList.drop 45 = dktX6_findsMore_2 := dk_seg dksX6_findsMore_1 22 rfl rfl
theorem dX6_findsMore_0 : decode cX6_findsMore 0 = .ok (.iconst 0, 1) := dk_3 (dk_at dksX6_findsMore_0 0 rfl rfl)
theorem dX6_findsMore_1 : decode cX6_findsMore 1 = .ok (.istore_n 3, 1) := dk_62 (dk_at dksX6_findsMore_0 1 rfl rfl)
theorem dX6_findsMore_2 : decode cX6_findsMore 2 = .ok (.iload_n 3, 1) := dk_29 (dk_at dksX6_findsMore_0 2 rfl rfl)
theorem dX6_findsMore_3 : decode cX6_findsMore 3 = .ok (.aload_n 0, 1) := dk_42 (dk_at dksX6_findsMore_0 3 rfl rfl)
theorem dX6_findsMore_4 : decode cX6_findsMore 4 = .ok (.getfield 16, 3) := dk_180 0 16 (dk_at dksX6_findsMore_0 4 rfl rfl)
theorem dX6_findsMore_7 : decode cX6_findsMore 7 = .ok (.iload_n 2, 1) := dk_28 (dk_at dksX6_findsMore_0 7 rfl rfl)
theorem dX6_findsMore_8 : decode cX6_findsMore 8 = .ok (.iaload, 1) := dk_46 (dk_at dksX6_findsMore_0 8 rfl rfl)
theorem dX6_findsMore_9 : decode cX6_findsMore 9 = .ok (.if_icmp .ge 45, 3) := dk_162 0 45 (dk_at dksX6_findsMore_0 9 rfl rfl)
theorem dX6_findsMore_12 : decode cX6_findsMore 12 = .ok (.aload_n 0, 1) := dk_42 (dk_at dksX6_findsMore_0 12 rfl rfl)
theorem dX6_findsMore_13 : decode cX6_findsMore 13 = .ok (.iload_n 2, 1) := dk_28 (dk_at dksX6_findsMore_0 13 rfl rfl)
theorem dX6_findsMore_14 : decode cX6_findsMore 14 = .ok (.iload_n 3, 1) := dk_29 (dk_at dksX6_findsMore_0 14 rfl rfl)
theorem dX6_findsMore_15 : decode cX6_findsMore 15 = .ok (.invokevirtual 138, 3) := dk_182 0 138 (dk_at dksX6_findsMore_0 15 rfl rfl)
theorem dX6_findsMore_18 : decode cX6_findsMore 18 = .ok (.istore 4, 2) := dk_54 4 (dk_at dksX6_findsMore_0 18 rfl rfl)
theorem dX6_findsMore_20 : decode cX6_findsMore 20 = .ok (.aload_n 0, 1) := dk_42 (dk_at dksX6_findsMore_0 20 rfl rfl)
theorem dX6_findsMore_21 : decode cX6_findsMore 21 = .ok (.iload_n 1, 1) := dk_27 (dk_at dksX6_findsMore_0 21 rfl rfl)
theorem dX6_findsMore_22 : decode cX6_findsMore 22 = .ok (.aload_n 0, 1) := dk_42 (dk_at dksX6_findsMore_0 22 rfl rfl)
theorem dX6_findsMore_23 : decode cX6_findsMore 23 = .ok (.getfield 19, 3) := dk_180 0 19 (dk_at dksX6_findsMore_1 0 rfl rfl)
theorem dX6_findsMore_26 : decode cX6_findsMore 26 = .ok (.iload 4, 2) := dk_21 4 (dk_at dksX6_findsMore_1 3 rfl rfl)
theorem dX6_findsMore_28 : decode cX6_findsMore 28 = .ok (.iaload, 1) := dk_46 (dk_at dksX6_findsMore_1 5 rfl rfl)
theorem dX6_findsMore_29 : decode cX6_findsMore 29 = .ok (.invokevirtual 172, 3) := dk_182 0 172 (dk_at dksX6_findsMore_1 6 rfl rfl)
theorem dX6_findsMore_32 : decode cX6_findsMore 32 = .ok (.ifCond .ne 16, 3) := dk_154 0 16 (dk_at dksX6_findsMore_1 9 rfl rfl)
theorem dX6_findsMore_35 : decode cX6_findsMore 35 = .ok (.aload_n 0, 1) := dk_42 (dk_at dksX6_findsMore_1 12 rfl rfl)
theorem dX6_findsMore_36 : decode cX6_findsMore 36 = .ok (.aload_n 0, 1) := dk_42 (dk_at dksX6_findsMore_1 13 rfl rfl)
theorem dX6_findsMore_37 : decode cX6_findsMore 37 = .ok (.getfield 25, 3) := dk_180 0 25 (dk_at dksX6_findsMore_1 14 rfl rfl)
theorem dX6_findsMore_40 : decode cX6_findsMore 40 = .ok (.iload 4, 2) := dk_21 4 (dk_at dksX6_findsMore_1 17 rfl rfl)
theorem dX6_findsMore_42 : decode cX6_findsMore 42 = .ok (.iaload, 1) := dk_46 (dk_at dksX6_findsMore_1 19 rfl rfl)
theorem dX6_findsMore_43 : decode cX6_findsMore 43 = .ok (.bipush 7, 2) := dk_16 7 (dk_at dksX6_findsMore_1 20 rfl rfl)
theorem dX6_findsMore_45 : decode cX6_findsMore 45 = .ok (.invokevirtual 162, 3) := dk_182 0 162 (dk_at dksX6_findsMore_2 0 rfl rfl)
theorem dX6_findsMore_48 : decode cX6_findsMore 48 = .ok (.iinc 3 1, 3) := dk_132 3 1 (dk_at dksX6_findsMore_2 3 rfl rfl)
theorem dX6_findsMore_51 : decode cX6_findsMore 51 = .ok (.goto (-49), 3) := dk_167 255 207 (dk_at dksX6_findsMore_2 6 rfl rfl)
theorem dX6_findsMore_54 : decode cX6_findsMore 54 = .ok (.return_, 1) := dk_177 (dk_at dksX6_findsMore_2 9 rfl rfl)
abbrev cX6_childOf : ByteArray := prog_25_method_11_code
def yX6_childOf : MethodName := ⟨RX6, "childOf", "(II)I"⟩
def dkwX6_childOf_1 : List UInt8 := [132, 4, 1, 167, 255, 238, 29, 172]
abbrev dktX6_childOf_1 : List UInt8 := dkwX6_childOf_1 ++ []
def dkwX6_childOf_0 : List UInt8 := [27, 4, 96, 62, 3, 54, 4, 21, 4, 28, 162, 0, 18, 29, 42, 180, 0, 22, 29, 46, 96, 62]
abbrev dktX6_childOf_0 : List UInt8 := dkwX6_childOf_0 ++ dktX6_childOf_1
theorem dksX6_childOf_0 : cX6_childOf.data.toList.drop 0 = dktX6_childOf_0 := by decide +kernel
theorem dksX6_childOf_1 : cX6_childOf.data.toList.drop 22 = dktX6_childOf_1 := dk_seg dksX6_childOf_0 22 rfl rfl
theorem dX6_childOf_0 : decode cX6_childOf 0 = .ok (.iload_n 1, 1) := dk_27 (dk_at dksX6_childOf_0 0 rfl rfl)
theorem dX6_childOf_1 : decode cX6_childOf 1 = .ok (.iconst 1, 1) := dk_4 (dk_at dksX6_childOf_0 1 rfl rfl)
theorem dX6_childOf_2 : decode cX6_childOf 2 = .ok (.iadd, 1) := dk_96 (dk_at dksX6_childOf_0 2 rfl rfl)
theorem dX6_childOf_3 : decode cX6_childOf 3 = .ok (.istore_n 3, 1) := dk_62 (dk_at dksX6_childOf_0 3 rfl rfl)
theorem dX6_childOf_4 : decode cX6_childOf 4 = .ok (.iconst 0, 1) := dk_3 (dk_at dksX6_childOf_0 4 rfl rfl)
theorem dX6_childOf_5 : decode cX6_childOf 5 = .ok (.istore 4, 2) := dk_54 4 (dk_at dksX6_childOf_0 5 rfl rfl)
theorem dX6_childOf_7 : decode cX6_childOf 7 = .ok (.iload 4, 2) := dk_21 4 (dk_at dksX6_childOf_0 7 rfl rfl)
theorem dX6_childOf_9 : decode cX6_childOf 9 = .ok (.iload_n 2, 1) := dk_28 (dk_at dksX6_childOf_0 9 rfl rfl)
theorem dX6_childOf_10 : decode cX6_childOf 10 = .ok (.if_icmp .ge 18, 3) := dk_162 0 18 (dk_at dksX6_childOf_0 10 rfl rfl)
theorem dX6_childOf_13 : decode cX6_childOf 13 = .ok (.iload_n 3, 1) := dk_29 (dk_at dksX6_childOf_0 13 rfl rfl)
theorem dX6_childOf_14 : decode cX6_childOf 14 = .ok (.aload_n 0, 1) := dk_42 (dk_at dksX6_childOf_0 14 rfl rfl)
theorem dX6_childOf_15 : decode cX6_childOf 15 = .ok (.getfield 22, 3) := dk_180 0 22 (dk_at dksX6_childOf_0 15 rfl rfl)
theorem dX6_childOf_18 : decode cX6_childOf 18 = .ok (.iload_n 3, 1) := dk_29 (dk_at dksX6_childOf_0 18 rfl rfl)
theorem dX6_childOf_19 : decode cX6_childOf 19 = .ok (.iaload, 1) := dk_46 (dk_at dksX6_childOf_0 19 rfl rfl)
theorem dX6_childOf_20 : decode cX6_childOf 20 = .ok (.iadd, 1) := dk_96 (dk_at dksX6_childOf_0 20 rfl rfl)
theorem dX6_childOf_21 : decode cX6_childOf 21 = .ok (.istore_n 3, 1) := dk_62 (dk_at dksX6_childOf_0 21 rfl rfl)
theorem dX6_childOf_22 : decode cX6_childOf 22 = .ok (.iinc 4 1, 3) := dk_132 4 1 (dk_at dksX6_childOf_1 0 rfl rfl)
theorem dX6_childOf_25 : decode cX6_childOf 25 = .ok (.goto (-18), 3) := dk_167 255 238 (dk_at dksX6_childOf_1 3 rfl rfl)
theorem dX6_childOf_28 : decode cX6_childOf 28 = .ok (.iload_n 3, 1) := dk_29 (dk_at dksX6_childOf_1 6 rfl rfl)
theorem dX6_childOf_29 : decode cX6_childOf 29 = .ok (.ireturn, 1) := dk_172 (dk_at dksX6_childOf_1 7 rfl rfl)
abbrev cX6_isToldField : ByteArray := prog_25_method_26_code
def yX6_isToldField : MethodName := ⟨RX6, "isToldField", "(II)Z"⟩
def dkwX6_isToldField_1 : List UInt8 := [29, 46, 28, 160, 0, 5, 4, 172, 132, 3, 1, 167, 255, 223, 3, 172]
abbrev dktX6_isToldField_1 : List UInt8 := dkwX6_isToldField_1 ++ []
def dkwX6_isToldField_0 : List UInt8 := [3, 62, 29, 42, 180, 0, 169, 162, 0, 31, 42, 180, 0, 43, 29, 46, 27, 160, 0, 15, 42, 180, 0, 46]
abbrev dktX6_isToldField_0 : List UInt8 := dkwX6_isToldField_0 ++ dktX6_isToldField_1
theorem dksX6_isToldField_0 : cX6_isToldField.data.toList.drop 0 = dktX6_isToldField_0 := by decide +kernel
theorem dksX6_isToldField_1 : cX6_isToldField.data.toList.drop 24 = dktX6_isToldField_1 := dk_seg dksX6_isToldField_0 24 rfl rfl
theorem dX6_isToldField_0 : decode cX6_isToldField 0 = .ok (.iconst 0, 1) := dk_3 (dk_at dksX6_isToldField_0 0 rfl rfl)
theorem dX6_isToldField_1 : decode cX6_isToldField 1 = .ok (.istore_n 3, 1) := dk_62 (dk_at dksX6_isToldField_0 1 rfl rfl)
theorem dX6_isToldField_2 : decode cX6_isToldField 2 = .ok (.iload_n 3, 1) := dk_29 (dk_at dksX6_isToldField_0 2 rfl rfl)
theorem dX6_isToldField_3 : decode cX6_isToldField 3 = .ok (.aload_n 0, 1) := dk_42 (dk_at dksX6_isToldField_0 3 rfl rfl)
theorem dX6_isToldField_4 : decode cX6_isToldField 4 = .ok (.getfield 169, 3) := dk_180 0 169 (dk_at dksX6_isToldField_0 4 rfl rfl)
theorem dX6_isToldField_7 : decode cX6_isToldField 7 = .ok (.if_icmp .ge 31, 3) := dk_162 0 31 (dk_at dksX6_isToldField_0 7 rfl rfl)
theorem dX6_isToldField_10 : decode cX6_isToldField 10 = .ok (.aload_n 0, 1) := dk_42 (dk_at dksX6_isToldField_0 10 rfl rfl)
theorem dX6_isToldField_11 : decode cX6_isToldField 11 = .ok (.getfield 43, 3) := dk_180 0 43 (dk_at dksX6_isToldField_0 11 rfl rfl)
theorem dX6_isToldField_14 : decode cX6_isToldField 14 = .ok (.iload_n 3, 1) := dk_29 (dk_at dksX6_isToldField_0 14 rfl rfl)
theorem dX6_isToldField_15 : decode cX6_isToldField 15 = .ok (.iaload, 1) := dk_46 (dk_at dksX6_isToldField_0 15 rfl rfl)
theorem dX6_isToldField_16 : decode cX6_isToldField 16 = .ok (.iload_n 1, 1) := dk_27 (dk_at dksX6_isToldField_0 16 rfl rfl)
theorem dX6_isToldField_17 : decode cX6_isToldField 17 = .ok (.if_icmp .ne 15, 3) := dk_160 0 15 (dk_at dksX6_isToldField_0 17 rfl rfl)
theorem dX6_isToldField_20 : decode cX6_isToldField 20 = .ok (.aload_n 0, 1) := dk_42 (dk_at dksX6_isToldField_0 20 rfl rfl)
theorem dX6_isToldField_21 : decode cX6_isToldField 21 = .ok (.getfield 46, 3) := dk_180 0 46 (dk_at dksX6_isToldField_0 21 rfl rfl)
theorem dX6_isToldField_24 : decode cX6_isToldField 24 = .ok (.iload_n 3, 1) := dk_29 (dk_at dksX6_isToldField_1 0 rfl rfl)
theorem dX6_isToldField_25 : decode cX6_isToldField 25 = .ok (.iaload, 1) := dk_46 (dk_at dksX6_isToldField_1 1 rfl rfl)
theorem dX6_isToldField_26 : decode cX6_isToldField 26 = .ok (.iload_n 2, 1) := dk_28 (dk_at dksX6_isToldField_1 2 rfl rfl)
theorem dX6_isToldField_27 : decode cX6_isToldField 27 = .ok (.if_icmp .ne 5, 3) := dk_160 0 5 (dk_at dksX6_isToldField_1 3 rfl rfl)
theorem dX6_isToldField_30 : decode cX6_isToldField 30 = .ok (.iconst 1, 1) := dk_4 (dk_at dksX6_isToldField_1 6 rfl rfl)
theorem dX6_isToldField_31 : decode cX6_isToldField 31 = .ok (.ireturn, 1) := dk_172 (dk_at dksX6_isToldField_1 7 rfl rfl)
theorem dX6_isToldField_32 : decode cX6_isToldField 32 = .ok (.iinc 3 1, 3) := dk_132 3 1 (dk_at dksX6_isToldField_1 8 rfl rfl)
theorem dX6_isToldField_35 : decode cX6_isToldField 35 = .ok (.goto (-33), 3) := dk_167 255 223 (dk_at dksX6_isToldField_1 11 rfl rfl)
theorem dX6_isToldField_38 : decode cX6_isToldField 38 = .ok (.iconst 0, 1) := dk_3 (dk_at dksX6_isToldField_1 14 rfl rfl)
theorem dX6_isToldField_39 : decode cX6_isToldField 39 = .ok (.ireturn, 1) := dk_172 (dk_at dksX6_isToldField_1 15 rfl rfl)
abbrev cX6_findsWaiter : ByteArray := prog_25_method_30_code
def yX6_findsWaiter : MethodName := ⟨RX6, "findsWaiter", "(III)V"⟩
def dkwX6_findsWaiter_6 : List UInt8 := [180, 0, 25, 21, 5, 46, 16, 9, 182, 0, 162, 177]
abbrev dktX6_findsWaiter_6 : List UInt8 := dkwX6_findsWaiter_6 ++ []
def dkwX6_findsWaiter_5 : List UInt8 := [180, 0, 58, 27, 46, 16, 61, 160, 0, 27, 42, 21, 4, 21, 5, 182, 0, 191, 154, 0, 16, 42, 42]
abbrev dktX6_findsWaiter_5 : List UInt8 := dkwX6_findsWaiter_5 ++ dktX6_findsWaiter_6
def dkwX6_findsWaiter_4 : List UInt8 := [182, 0, 188, 154, 0, 19, 42, 42, 180, 0, 25, 21, 5, 46, 16, 8, 182, 0, 162, 167, 0, 38, 42]
abbrev dktX6_findsWaiter_4 : List UInt8 := dkwX6_findsWaiter_4 ++ dktX6_findsWaiter_5
def dkwX6_findsWaiter_3 : List UInt8 := [96, 181, 0, 185, 167, 0, 76, 42, 180, 0, 58, 27, 46, 16, 60, 160, 0, 30, 42, 21, 4, 21, 5]
abbrev dktX6_findsWaiter_3 : List UInt8 := dkwX6_findsWaiter_3 ++ dktX6_findsWaiter_4
def dkwX6_findsWaiter_2 : List UInt8 := [154, 0, 18, 42, 29, 42, 180, 0, 25, 21, 5, 46, 182, 0, 182, 153, 0, 16, 42, 89, 180, 0, 185, 4]
abbrev dktX6_findsWaiter_2 : List UInt8 := dkwX6_findsWaiter_2 ++ dktX6_findsWaiter_3
def dkwX6_findsWaiter_1 : List UInt8 := [54, 5, 21, 4, 155, 0, 38, 21, 5, 155, 0, 33, 42, 29, 42, 180, 0, 25, 21, 4, 46, 182, 0, 182]
abbrev dktX6_findsWaiter_1 : List UInt8 := dkwX6_findsWaiter_1 ++ dktX6_findsWaiter_2
def dkwX6_findsWaiter_0 : List UInt8 := [42, 28, 42, 180, 0, 61, 27, 46, 182, 0, 179, 54, 4, 42, 28, 42, 180, 0, 64, 27, 46, 182, 0, 179]
abbrev dktX6_findsWaiter_0 : List UInt8 := dkwX6_findsWaiter_0 ++ dktX6_findsWaiter_1
theorem dksX6_findsWaiter_0 : cX6_findsWaiter.data.toList.drop 0 = dktX6_findsWaiter_0 := by decide +kernel
theorem dksX6_findsWaiter_1 : cX6_findsWaiter.data.toList.drop 24 = dktX6_findsWaiter_1 := dk_seg dksX6_findsWaiter_0 24 rfl rfl
theorem dksX6_findsWaiter_2 : cX6_findsWaiter.data.toList.drop 48 = dktX6_findsWaiter_2 := dk_seg dksX6_findsWaiter_1 24 rfl rfl
theorem dksX6_findsWaiter_3 : cX6_findsWaiter.data.toList.drop 72 = dktX6_findsWaiter_3 := dk_seg dksX6_findsWaiter_2 24 rfl rfl
theorem dksX6_findsWaiter_4 : cX6_findsWaiter.data.toList.drop 95 = dktX6_findsWaiter_4 := dk_seg dksX6_findsWaiter_3 23 rfl rfl
theorem dksX6_findsWaiter_5 : cX6_findsWaiter.data.toList.drop 118 = dktX6_findsWaiter_5 := dk_seg dksX6_findsWaiter_4 23 rfl rfl
theorem dksX6_findsWaiter_6 : cX6_findsWaiter.data.toList.drop 141 = dktX6_findsWaiter_6 := dk_seg dksX6_findsWaiter_5 23 rfl rfl
theorem dX6_findsWaiter_0 : decode cX6_findsWaiter 0 = .ok (.aload_n 0, 1) := dk_42 (dk_at dksX6_findsWaiter_0 0 rfl rfl)
theorem dX6_findsWaiter_1 : decode cX6_findsWaiter 1 = .ok (.iload_n 2, 1) := dk_28 (dk_at dksX6_findsWaiter_0 1 rfl rfl)
theorem dX6_findsWaiter_2 : decode cX6_findsWaiter 2 = .ok (.aload_n 0, 1) := dk_42 (dk_at dksX6_findsWaiter_0 2 rfl rfl)
theorem dX6_findsWaiter_3 : decode cX6_findsWaiter 3 = .ok (.getfield 61, 3) := dk_180 0 61 (dk_at dksX6_findsWaiter_0 3 rfl rfl)
theorem dX6_findsWaiter_6 : decode cX6_findsWaiter 6 = .ok (.iload_n 1, 1) := dk_27 (dk_at dksX6_findsWaiter_0 6 rfl rfl)
theorem dX6_findsWaiter_7 : decode cX6_findsWaiter 7 = .ok (.iaload, 1) := dk_46 (dk_at dksX6_findsWaiter_0 7 rfl rfl)
theorem dX6_findsWaiter_8 : decode cX6_findsWaiter 8 = .ok (.invokevirtual 179, 3) := dk_182 0 179 (dk_at dksX6_findsWaiter_0 8 rfl rfl)
theorem dX6_findsWaiter_11 : decode cX6_findsWaiter 11 = .ok (.istore 4, 2) := dk_54 4 (dk_at dksX6_findsWaiter_0 11 rfl rfl)
theorem dX6_findsWaiter_13 : decode cX6_findsWaiter 13 = .ok (.aload_n 0, 1) := dk_42 (dk_at dksX6_findsWaiter_0 13 rfl rfl)
theorem dX6_findsWaiter_14 : decode cX6_findsWaiter 14 = .ok (.iload_n 2, 1) := dk_28 (dk_at dksX6_findsWaiter_0 14 rfl rfl)
theorem dX6_findsWaiter_15 : decode cX6_findsWaiter 15 = .ok (.aload_n 0, 1) := dk_42 (dk_at dksX6_findsWaiter_0 15 rfl rfl)
theorem dX6_findsWaiter_16 : decode cX6_findsWaiter 16 = .ok (.getfield 64, 3) := dk_180 0 64 (dk_at dksX6_findsWaiter_0 16 rfl rfl)
theorem dX6_findsWaiter_19 : decode cX6_findsWaiter 19 = .ok (.iload_n 1, 1) := dk_27 (dk_at dksX6_findsWaiter_0 19 rfl rfl)
theorem dX6_findsWaiter_20 : decode cX6_findsWaiter 20 = .ok (.iaload, 1) := dk_46 (dk_at dksX6_findsWaiter_0 20 rfl rfl)
theorem dX6_findsWaiter_21 : decode cX6_findsWaiter 21 = .ok (.invokevirtual 179, 3) := dk_182 0 179 (dk_at dksX6_findsWaiter_0 21 rfl rfl)
theorem dX6_findsWaiter_24 : decode cX6_findsWaiter 24 = .ok (.istore 5, 2) := dk_54 5 (dk_at dksX6_findsWaiter_1 0 rfl rfl)
theorem dX6_findsWaiter_26 : decode cX6_findsWaiter 26 = .ok (.iload 4, 2) := dk_21 4 (dk_at dksX6_findsWaiter_1 2 rfl rfl)
theorem dX6_findsWaiter_28 : decode cX6_findsWaiter 28 = .ok (.ifCond .lt 38, 3) := dk_155 0 38 (dk_at dksX6_findsWaiter_1 4 rfl rfl)
theorem dX6_findsWaiter_31 : decode cX6_findsWaiter 31 = .ok (.iload 5, 2) := dk_21 5 (dk_at dksX6_findsWaiter_1 7 rfl rfl)
theorem dX6_findsWaiter_33 : decode cX6_findsWaiter 33 = .ok (.ifCond .lt 33, 3) := dk_155 0 33 (dk_at dksX6_findsWaiter_1 9 rfl rfl)
theorem dX6_findsWaiter_36 : decode cX6_findsWaiter 36 = .ok (.aload_n 0, 1) := dk_42 (dk_at dksX6_findsWaiter_1 12 rfl rfl)
theorem dX6_findsWaiter_37 : decode cX6_findsWaiter 37 = .ok (.iload_n 3, 1) := dk_29 (dk_at dksX6_findsWaiter_1 13 rfl rfl)
theorem dX6_findsWaiter_38 : decode cX6_findsWaiter 38 = .ok (.aload_n 0, 1) := dk_42 (dk_at dksX6_findsWaiter_1 14 rfl rfl)
theorem dX6_findsWaiter_39 : decode cX6_findsWaiter 39 = .ok (.getfield 25, 3) := dk_180 0 25 (dk_at dksX6_findsWaiter_1 15 rfl rfl)
theorem dX6_findsWaiter_42 : decode cX6_findsWaiter 42 = .ok (.iload 4, 2) := dk_21 4 (dk_at dksX6_findsWaiter_1 18 rfl rfl)
theorem dX6_findsWaiter_44 : decode cX6_findsWaiter 44 = .ok (.iaload, 1) := dk_46 (dk_at dksX6_findsWaiter_1 20 rfl rfl)
theorem dX6_findsWaiter_45 : decode cX6_findsWaiter 45 = .ok (.invokevirtual 182, 3) := dk_182 0 182 (dk_at dksX6_findsWaiter_1 21 rfl rfl)
theorem dX6_findsWaiter_48 : decode cX6_findsWaiter 48 = .ok (.ifCond .ne 18, 3) := dk_154 0 18 (dk_at dksX6_findsWaiter_2 0 rfl rfl)
theorem dX6_findsWaiter_51 : decode cX6_findsWaiter 51 = .ok (.aload_n 0, 1) := dk_42 (dk_at dksX6_findsWaiter_2 3 rfl rfl)
theorem dX6_findsWaiter_52 : decode cX6_findsWaiter 52 = .ok (.iload_n 3, 1) := dk_29 (dk_at dksX6_findsWaiter_2 4 rfl rfl)
theorem dX6_findsWaiter_53 : decode cX6_findsWaiter 53 = .ok (.aload_n 0, 1) := dk_42 (dk_at dksX6_findsWaiter_2 5 rfl rfl)
theorem dX6_findsWaiter_54 : decode cX6_findsWaiter 54 = .ok (.getfield 25, 3) := dk_180 0 25 (dk_at dksX6_findsWaiter_2 6 rfl rfl)
theorem dX6_findsWaiter_57 : decode cX6_findsWaiter 57 = .ok (.iload 5, 2) := dk_21 5 (dk_at dksX6_findsWaiter_2 9 rfl rfl)
theorem dX6_findsWaiter_59 : decode cX6_findsWaiter 59 = .ok (.iaload, 1) := dk_46 (dk_at dksX6_findsWaiter_2 11 rfl rfl)
theorem dX6_findsWaiter_60 : decode cX6_findsWaiter 60 = .ok (.invokevirtual 182, 3) := dk_182 0 182 (dk_at dksX6_findsWaiter_2 12 rfl rfl)
theorem dX6_findsWaiter_63 : decode cX6_findsWaiter 63 = .ok (.ifCond .eq 16, 3) := dk_153 0 16 (dk_at dksX6_findsWaiter_2 15 rfl rfl)
theorem dX6_findsWaiter_66 : decode cX6_findsWaiter 66 = .ok (.aload_n 0, 1) := dk_42 (dk_at dksX6_findsWaiter_2 18 rfl rfl)
theorem dX6_findsWaiter_67 : decode cX6_findsWaiter 67 = .ok (.dup, 1) := dk_89 (dk_at dksX6_findsWaiter_2 19 rfl rfl)
theorem dX6_findsWaiter_68 : decode cX6_findsWaiter 68 = .ok (.getfield 185, 3) := dk_180 0 185 (dk_at dksX6_findsWaiter_2 20 rfl rfl)
theorem dX6_findsWaiter_71 : decode cX6_findsWaiter 71 = .ok (.iconst 1, 1) := dk_4 (dk_at dksX6_findsWaiter_2 23 rfl rfl)
theorem dX6_findsWaiter_72 : decode cX6_findsWaiter 72 = .ok (.iadd, 1) := dk_96 (dk_at dksX6_findsWaiter_3 0 rfl rfl)
theorem dX6_findsWaiter_73 : decode cX6_findsWaiter 73 = .ok (.putfield 185, 3) := dk_181 0 185 (dk_at dksX6_findsWaiter_3 1 rfl rfl)
theorem dX6_findsWaiter_76 : decode cX6_findsWaiter 76 = .ok (.goto 76, 3) := dk_167 0 76 (dk_at dksX6_findsWaiter_3 4 rfl rfl)
theorem dX6_findsWaiter_79 : decode cX6_findsWaiter 79 = .ok (.aload_n 0, 1) := dk_42 (dk_at dksX6_findsWaiter_3 7 rfl rfl)
theorem dX6_findsWaiter_80 : decode cX6_findsWaiter 80 = .ok (.getfield 58, 3) := dk_180 0 58 (dk_at dksX6_findsWaiter_3 8 rfl rfl)
theorem dX6_findsWaiter_83 : decode cX6_findsWaiter 83 = .ok (.iload_n 1, 1) := dk_27 (dk_at dksX6_findsWaiter_3 11 rfl rfl)
theorem dX6_findsWaiter_84 : decode cX6_findsWaiter 84 = .ok (.iaload, 1) := dk_46 (dk_at dksX6_findsWaiter_3 12 rfl rfl)
theorem dX6_findsWaiter_85 : decode cX6_findsWaiter 85 = .ok (.bipush 60, 2) := dk_16 60 (dk_at dksX6_findsWaiter_3 13 rfl rfl)
theorem dX6_findsWaiter_87 : decode cX6_findsWaiter 87 = .ok (.if_icmp .ne 30, 3) := dk_160 0 30 (dk_at dksX6_findsWaiter_3 15 rfl rfl)
theorem dX6_findsWaiter_90 : decode cX6_findsWaiter 90 = .ok (.aload_n 0, 1) := dk_42 (dk_at dksX6_findsWaiter_3 18 rfl rfl)
theorem dX6_findsWaiter_91 : decode cX6_findsWaiter 91 = .ok (.iload 4, 2) := dk_21 4 (dk_at dksX6_findsWaiter_3 19 rfl rfl)
theorem dX6_findsWaiter_93 : decode cX6_findsWaiter 93 = .ok (.iload 5, 2) := dk_21 5 (dk_at dksX6_findsWaiter_3 21 rfl rfl)
theorem dX6_findsWaiter_95 : decode cX6_findsWaiter 95 = .ok (.invokevirtual 188, 3) := dk_182 0 188 (dk_at dksX6_findsWaiter_4 0 rfl rfl)
theorem dX6_findsWaiter_98 : decode cX6_findsWaiter 98 = .ok (.ifCond .ne 19, 3) := dk_154 0 19 (dk_at dksX6_findsWaiter_4 3 rfl rfl)
theorem dX6_findsWaiter_101 : decode cX6_findsWaiter 101 = .ok (.aload_n 0, 1) := dk_42 (dk_at dksX6_findsWaiter_4 6 rfl rfl)
theorem dX6_findsWaiter_102 : decode cX6_findsWaiter 102 = .ok (.aload_n 0, 1) := dk_42 (dk_at dksX6_findsWaiter_4 7 rfl rfl)
theorem dX6_findsWaiter_103 : decode cX6_findsWaiter 103 = .ok (.getfield 25, 3) := dk_180 0 25 (dk_at dksX6_findsWaiter_4 8 rfl rfl)
theorem dX6_findsWaiter_106 : decode cX6_findsWaiter 106 = .ok (.iload 5, 2) := dk_21 5 (dk_at dksX6_findsWaiter_4 11 rfl rfl)
theorem dX6_findsWaiter_108 : decode cX6_findsWaiter 108 = .ok (.iaload, 1) := dk_46 (dk_at dksX6_findsWaiter_4 13 rfl rfl)
theorem dX6_findsWaiter_109 : decode cX6_findsWaiter 109 = .ok (.bipush 8, 2) := dk_16 8 (dk_at dksX6_findsWaiter_4 14 rfl rfl)
theorem dX6_findsWaiter_111 : decode cX6_findsWaiter 111 = .ok (.invokevirtual 162, 3) := dk_182 0 162 (dk_at dksX6_findsWaiter_4 16 rfl rfl)
theorem dX6_findsWaiter_114 : decode cX6_findsWaiter 114 = .ok (.goto 38, 3) := dk_167 0 38 (dk_at dksX6_findsWaiter_4 19 rfl rfl)
theorem dX6_findsWaiter_117 : decode cX6_findsWaiter 117 = .ok (.aload_n 0, 1) := dk_42 (dk_at dksX6_findsWaiter_4 22 rfl rfl)
theorem dX6_findsWaiter_118 : decode cX6_findsWaiter 118 = .ok (.getfield 58, 3) := dk_180 0 58 (dk_at dksX6_findsWaiter_5 0 rfl rfl)
theorem dX6_findsWaiter_121 : decode cX6_findsWaiter 121 = .ok (.iload_n 1, 1) := dk_27 (dk_at dksX6_findsWaiter_5 3 rfl rfl)
theorem dX6_findsWaiter_122 : decode cX6_findsWaiter 122 = .ok (.iaload, 1) := dk_46 (dk_at dksX6_findsWaiter_5 4 rfl rfl)
theorem dX6_findsWaiter_123 : decode cX6_findsWaiter 123 = .ok (.bipush 61, 2) := dk_16 61 (dk_at dksX6_findsWaiter_5 5 rfl rfl)
theorem dX6_findsWaiter_125 : decode cX6_findsWaiter 125 = .ok (.if_icmp .ne 27, 3) := dk_160 0 27 (dk_at dksX6_findsWaiter_5 7 rfl rfl)
theorem dX6_findsWaiter_128 : decode cX6_findsWaiter 128 = .ok (.aload_n 0, 1) := dk_42 (dk_at dksX6_findsWaiter_5 10 rfl rfl)
theorem dX6_findsWaiter_129 : decode cX6_findsWaiter 129 = .ok (.iload 4, 2) := dk_21 4 (dk_at dksX6_findsWaiter_5 11 rfl rfl)
theorem dX6_findsWaiter_131 : decode cX6_findsWaiter 131 = .ok (.iload 5, 2) := dk_21 5 (dk_at dksX6_findsWaiter_5 13 rfl rfl)
theorem dX6_findsWaiter_133 : decode cX6_findsWaiter 133 = .ok (.invokevirtual 191, 3) := dk_182 0 191 (dk_at dksX6_findsWaiter_5 15 rfl rfl)
theorem dX6_findsWaiter_136 : decode cX6_findsWaiter 136 = .ok (.ifCond .ne 16, 3) := dk_154 0 16 (dk_at dksX6_findsWaiter_5 18 rfl rfl)
theorem dX6_findsWaiter_139 : decode cX6_findsWaiter 139 = .ok (.aload_n 0, 1) := dk_42 (dk_at dksX6_findsWaiter_5 21 rfl rfl)
theorem dX6_findsWaiter_140 : decode cX6_findsWaiter 140 = .ok (.aload_n 0, 1) := dk_42 (dk_at dksX6_findsWaiter_5 22 rfl rfl)
theorem dX6_findsWaiter_141 : decode cX6_findsWaiter 141 = .ok (.getfield 25, 3) := dk_180 0 25 (dk_at dksX6_findsWaiter_6 0 rfl rfl)
theorem dX6_findsWaiter_144 : decode cX6_findsWaiter 144 = .ok (.iload 5, 2) := dk_21 5 (dk_at dksX6_findsWaiter_6 3 rfl rfl)
theorem dX6_findsWaiter_146 : decode cX6_findsWaiter 146 = .ok (.iaload, 1) := dk_46 (dk_at dksX6_findsWaiter_6 5 rfl rfl)
theorem dX6_findsWaiter_147 : decode cX6_findsWaiter 147 = .ok (.bipush 9, 2) := dk_16 9 (dk_at dksX6_findsWaiter_6 6 rfl rfl)
theorem dX6_findsWaiter_149 : decode cX6_findsWaiter 149 = .ok (.invokevirtual 162, 3) := dk_182 0 162 (dk_at dksX6_findsWaiter_6 8 rfl rfl)
theorem dX6_findsWaiter_152 : decode cX6_findsWaiter 152 = .ok (.return_, 1) := dk_177 (dk_at dksX6_findsWaiter_6 11 rfl rfl)
abbrev cX6_fieldOf : ByteArray := prog_25_method_12_code
def yX6_fieldOf : MethodName := ⟨RX6, "fieldOf", "(II)I"⟩
def dkwX6_fieldOf_1 : List UInt8 := [160, 0, 10, 42, 27, 29, 182, 0, 138, 172, 132, 3, 1, 167, 255, 221, 16, 247, 172]
abbrev dktX6_fieldOf_1 : List UInt8 := dkwX6_fieldOf_1 ++ []
def dkwX6_fieldOf_0 : List UInt8 := [3, 62, 29, 42, 180, 0, 16, 27, 46, 162, 0, 31, 42, 180, 0, 19, 42, 27, 29, 182, 0, 138, 46, 28]
abbrev dktX6_fieldOf_0 : List UInt8 := dkwX6_fieldOf_0 ++ dktX6_fieldOf_1
theorem dksX6_fieldOf_0 : cX6_fieldOf.data.toList.drop 0 = dktX6_fieldOf_0 := by decide +kernel
theorem dksX6_fieldOf_1 : cX6_fieldOf.data.toList.drop 24 = dktX6_fieldOf_1 := dk_seg dksX6_fieldOf_0 24 rfl rfl
theorem dX6_fieldOf_0 : decode cX6_fieldOf 0 = .ok (.iconst 0, 1) := dk_3 (dk_at dksX6_fieldOf_0 0 rfl rfl)
theorem dX6_fieldOf_1 : decode cX6_fieldOf 1 = .ok (.istore_n 3, 1) := dk_62 (dk_at dksX6_fieldOf_0 1 rfl rfl)
theorem dX6_fieldOf_2 : decode cX6_fieldOf 2 = .ok (.iload_n 3, 1) := dk_29 (dk_at dksX6_fieldOf_0 2 rfl rfl)
theorem dX6_fieldOf_3 : decode cX6_fieldOf 3 = .ok (.aload_n 0, 1) := dk_42 (dk_at dksX6_fieldOf_0 3 rfl rfl)
theorem dX6_fieldOf_4 : decode cX6_fieldOf 4 = .ok (.getfield 16, 3) := dk_180 0 16 (dk_at dksX6_fieldOf_0 4 rfl rfl)
theorem dX6_fieldOf_7 : decode cX6_fieldOf 7 = .ok (.iload_n 1, 1) := dk_27 (dk_at dksX6_fieldOf_0 7 rfl rfl)
theorem dX6_fieldOf_8 : decode cX6_fieldOf 8 = .ok (.iaload, 1) := dk_46 (dk_at dksX6_fieldOf_0 8 rfl rfl)
theorem dX6_fieldOf_9 : decode cX6_fieldOf 9 = .ok (.if_icmp .ge 31, 3) := dk_162 0 31 (dk_at dksX6_fieldOf_0 9 rfl rfl)
theorem dX6_fieldOf_12 : decode cX6_fieldOf 12 = .ok (.aload_n 0, 1) := dk_42 (dk_at dksX6_fieldOf_0 12 rfl rfl)
theorem dX6_fieldOf_13 : decode cX6_fieldOf 13 = .ok (.getfield 19, 3) := dk_180 0 19 (dk_at dksX6_fieldOf_0 13 rfl rfl)
theorem dX6_fieldOf_16 : decode cX6_fieldOf 16 = .ok (.aload_n 0, 1) := dk_42 (dk_at dksX6_fieldOf_0 16 rfl rfl)
theorem dX6_fieldOf_17 : decode cX6_fieldOf 17 = .ok (.iload_n 1, 1) := dk_27 (dk_at dksX6_fieldOf_0 17 rfl rfl)
theorem dX6_fieldOf_18 : decode cX6_fieldOf 18 = .ok (.iload_n 3, 1) := dk_29 (dk_at dksX6_fieldOf_0 18 rfl rfl)
theorem dX6_fieldOf_19 : decode cX6_fieldOf 19 = .ok (.invokevirtual 138, 3) := dk_182 0 138 (dk_at dksX6_fieldOf_0 19 rfl rfl)
theorem dX6_fieldOf_22 : decode cX6_fieldOf 22 = .ok (.iaload, 1) := dk_46 (dk_at dksX6_fieldOf_0 22 rfl rfl)
theorem dX6_fieldOf_23 : decode cX6_fieldOf 23 = .ok (.iload_n 2, 1) := dk_28 (dk_at dksX6_fieldOf_0 23 rfl rfl)
theorem dX6_fieldOf_24 : decode cX6_fieldOf 24 = .ok (.if_icmp .ne 10, 3) := dk_160 0 10 (dk_at dksX6_fieldOf_1 0 rfl rfl)
theorem dX6_fieldOf_27 : decode cX6_fieldOf 27 = .ok (.aload_n 0, 1) := dk_42 (dk_at dksX6_fieldOf_1 3 rfl rfl)
theorem dX6_fieldOf_28 : decode cX6_fieldOf 28 = .ok (.iload_n 1, 1) := dk_27 (dk_at dksX6_fieldOf_1 4 rfl rfl)
theorem dX6_fieldOf_29 : decode cX6_fieldOf 29 = .ok (.iload_n 3, 1) := dk_29 (dk_at dksX6_fieldOf_1 5 rfl rfl)
theorem dX6_fieldOf_30 : decode cX6_fieldOf 30 = .ok (.invokevirtual 138, 3) := dk_182 0 138 (dk_at dksX6_fieldOf_1 6 rfl rfl)
theorem dX6_fieldOf_33 : decode cX6_fieldOf 33 = .ok (.ireturn, 1) := dk_172 (dk_at dksX6_fieldOf_1 9 rfl rfl)
theorem dX6_fieldOf_34 : decode cX6_fieldOf 34 = .ok (.iinc 3 1, 3) := dk_132 3 1 (dk_at dksX6_fieldOf_1 10 rfl rfl)
theorem dX6_fieldOf_37 : decode cX6_fieldOf 37 = .ok (.goto (-35), 3) := dk_167 255 221 (dk_at dksX6_fieldOf_1 13 rfl rfl)
theorem dX6_fieldOf_40 : decode cX6_fieldOf 40 = .ok (.bipush (-9), 2) := dk_16 247 (dk_at dksX6_fieldOf_1 16 rfl rfl)
theorem dX6_fieldOf_42 : decode cX6_fieldOf 42 = .ok (.ireturn, 1) := dk_172 (dk_at dksX6_fieldOf_1 18 rfl rfl)
abbrev cX6_isAnyBelow : ByteArray := prog_25_method_28_code
def yX6_isAnyBelow : MethodName := ⟨RX6, "isAnyBelow", "(II)Z"⟩
def dkwX6_isAnyBelow_1 : List UInt8 := [172, 132, 3, 1, 167, 255, 230, 3, 172]
abbrev dktX6_isAnyBelow_1 : List UInt8 := dkwX6_isAnyBelow_1 ++ []
def dkwX6_isAnyBelow_0 : List UInt8 := [27, 62, 29, 42, 180, 0, 159, 162, 0, 24, 42, 180, 0, 67, 29, 46, 28, 184, 0, 176, 153, 0, 5, 4]
abbrev dktX6_isAnyBelow_0 : List UInt8 := dkwX6_isAnyBelow_0 ++ dktX6_isAnyBelow_1
theorem dksX6_isAnyBelow_0 : cX6_isAnyBelow.data.toList.drop 0 = dktX6_isAnyBelow_0 := by decide +kernel
theorem dksX6_isAnyBelow_1 : cX6_isAnyBelow.data.toList.drop 24 = dktX6_isAnyBelow_1 := dk_seg dksX6_isAnyBelow_0 24 rfl rfl
theorem dX6_isAnyBelow_0 : decode cX6_isAnyBelow 0 = .ok (.iload_n 1, 1) := dk_27 (dk_at dksX6_isAnyBelow_0 0 rfl rfl)
theorem dX6_isAnyBelow_1 : decode cX6_isAnyBelow 1 = .ok (.istore_n 3, 1) := dk_62 (dk_at dksX6_isAnyBelow_0 1 rfl rfl)
theorem dX6_isAnyBelow_2 : decode cX6_isAnyBelow 2 = .ok (.iload_n 3, 1) := dk_29 (dk_at dksX6_isAnyBelow_0 2 rfl rfl)
theorem dX6_isAnyBelow_3 : decode cX6_isAnyBelow 3 = .ok (.aload_n 0, 1) := dk_42 (dk_at dksX6_isAnyBelow_0 3 rfl rfl)
theorem dX6_isAnyBelow_4 : decode cX6_isAnyBelow 4 = .ok (.getfield 159, 3) := dk_180 0 159 (dk_at dksX6_isAnyBelow_0 4 rfl rfl)
theorem dX6_isAnyBelow_7 : decode cX6_isAnyBelow 7 = .ok (.if_icmp .ge 24, 3) := dk_162 0 24 (dk_at dksX6_isAnyBelow_0 7 rfl rfl)
theorem dX6_isAnyBelow_10 : decode cX6_isAnyBelow 10 = .ok (.aload_n 0, 1) := dk_42 (dk_at dksX6_isAnyBelow_0 10 rfl rfl)
theorem dX6_isAnyBelow_11 : decode cX6_isAnyBelow 11 = .ok (.getfield 67, 3) := dk_180 0 67 (dk_at dksX6_isAnyBelow_0 11 rfl rfl)
theorem dX6_isAnyBelow_14 : decode cX6_isAnyBelow 14 = .ok (.iload_n 3, 1) := dk_29 (dk_at dksX6_isAnyBelow_0 14 rfl rfl)
theorem dX6_isAnyBelow_15 : decode cX6_isAnyBelow 15 = .ok (.iaload, 1) := dk_46 (dk_at dksX6_isAnyBelow_0 15 rfl rfl)
theorem dX6_isAnyBelow_16 : decode cX6_isAnyBelow 16 = .ok (.iload_n 2, 1) := dk_28 (dk_at dksX6_isAnyBelow_0 16 rfl rfl)
theorem dX6_isAnyBelow_17 : decode cX6_isAnyBelow 17 = .ok (.invokestatic 176, 3) := dk_184 0 176 (dk_at dksX6_isAnyBelow_0 17 rfl rfl)
theorem dX6_isAnyBelow_20 : decode cX6_isAnyBelow 20 = .ok (.ifCond .eq 5, 3) := dk_153 0 5 (dk_at dksX6_isAnyBelow_0 20 rfl rfl)
theorem dX6_isAnyBelow_23 : decode cX6_isAnyBelow 23 = .ok (.iconst 1, 1) := dk_4 (dk_at dksX6_isAnyBelow_0 23 rfl rfl)
theorem dX6_isAnyBelow_24 : decode cX6_isAnyBelow 24 = .ok (.ireturn, 1) := dk_172 (dk_at dksX6_isAnyBelow_1 0 rfl rfl)
theorem dX6_isAnyBelow_25 : decode cX6_isAnyBelow 25 = .ok (.iinc 3 1, 3) := dk_132 3 1 (dk_at dksX6_isAnyBelow_1 1 rfl rfl)
theorem dX6_isAnyBelow_28 : decode cX6_isAnyBelow 28 = .ok (.goto (-26), 3) := dk_167 255 230 (dk_at dksX6_isAnyBelow_1 4 rfl rfl)
theorem dX6_isAnyBelow_31 : decode cX6_isAnyBelow 31 = .ok (.iconst 0, 1) := dk_3 (dk_at dksX6_isAnyBelow_1 7 rfl rfl)
theorem dX6_isAnyBelow_32 : decode cX6_isAnyBelow 32 = .ok (.ireturn, 1) := dk_172 (dk_at dksX6_isAnyBelow_1 8 rfl rfl)
abbrev cX6_isBelow : ByteArray := prog_25_method_19_code
def yX6_isBelow : MethodName := ⟨RX6, "isBelow", "(II)Z"⟩
def dkwX6_isBelow_1 : List UInt8 := [3, 172]
abbrev dktX6_isBelow_1 : List UInt8 := dkwX6_isBelow_1 ++ []
def dkwX6_isBelow_0 : List UInt8 := [26, 61, 28, 27, 164, 0, 11, 28, 16, 10, 108, 61, 167, 255, 246, 28, 27, 160, 0, 7, 4, 167, 0, 4]
abbrev dktX6_isBelow_0 : List UInt8 := dkwX6_isBelow_0 ++ dktX6_isBelow_1
theorem dksX6_isBelow_0 : cX6_isBelow.data.toList.drop 0 = dktX6_isBelow_0 := by decide +kernel
theorem dksX6_isBelow_1 : cX6_isBelow.data.toList.drop 24 = dktX6_isBelow_1 := dk_seg dksX6_isBelow_0 24 rfl rfl
theorem dX6_isBelow_0 : decode cX6_isBelow 0 = .ok (.iload_n 0, 1) := dk_26 (dk_at dksX6_isBelow_0 0 rfl rfl)
theorem dX6_isBelow_1 : decode cX6_isBelow 1 = .ok (.istore_n 2, 1) := dk_61 (dk_at dksX6_isBelow_0 1 rfl rfl)
theorem dX6_isBelow_2 : decode cX6_isBelow 2 = .ok (.iload_n 2, 1) := dk_28 (dk_at dksX6_isBelow_0 2 rfl rfl)
theorem dX6_isBelow_3 : decode cX6_isBelow 3 = .ok (.iload_n 1, 1) := dk_27 (dk_at dksX6_isBelow_0 3 rfl rfl)
theorem dX6_isBelow_4 : decode cX6_isBelow 4 = .ok (.if_icmp .le 11, 3) := dk_164 0 11 (dk_at dksX6_isBelow_0 4 rfl rfl)
theorem dX6_isBelow_7 : decode cX6_isBelow 7 = .ok (.iload_n 2, 1) := dk_28 (dk_at dksX6_isBelow_0 7 rfl rfl)
theorem dX6_isBelow_8 : decode cX6_isBelow 8 = .ok (.bipush 10, 2) := dk_16 10 (dk_at dksX6_isBelow_0 8 rfl rfl)
theorem dX6_isBelow_10 : decode cX6_isBelow 10 = .ok (.idiv, 1) := dk_108 (dk_at dksX6_isBelow_0 10 rfl rfl)
theorem dX6_isBelow_11 : decode cX6_isBelow 11 = .ok (.istore_n 2, 1) := dk_61 (dk_at dksX6_isBelow_0 11 rfl rfl)
theorem dX6_isBelow_12 : decode cX6_isBelow 12 = .ok (.goto (-10), 3) := dk_167 255 246 (dk_at dksX6_isBelow_0 12 rfl rfl)
theorem dX6_isBelow_15 : decode cX6_isBelow 15 = .ok (.iload_n 2, 1) := dk_28 (dk_at dksX6_isBelow_0 15 rfl rfl)
theorem dX6_isBelow_16 : decode cX6_isBelow 16 = .ok (.iload_n 1, 1) := dk_27 (dk_at dksX6_isBelow_0 16 rfl rfl)
theorem dX6_isBelow_17 : decode cX6_isBelow 17 = .ok (.if_icmp .ne 7, 3) := dk_160 0 7 (dk_at dksX6_isBelow_0 17 rfl rfl)
theorem dX6_isBelow_20 : decode cX6_isBelow 20 = .ok (.iconst 1, 1) := dk_4 (dk_at dksX6_isBelow_0 20 rfl rfl)
theorem dX6_isBelow_21 : decode cX6_isBelow 21 = .ok (.goto 4, 3) := dk_167 0 4 (dk_at dksX6_isBelow_0 21 rfl rfl)
theorem dX6_isBelow_24 : decode cX6_isBelow 24 = .ok (.iconst 0, 1) := dk_3 (dk_at dksX6_isBelow_1 0 rfl rfl)
theorem dX6_isBelow_25 : decode cX6_isBelow 25 = .ok (.ireturn, 1) := dk_172 (dk_at dksX6_isBelow_1 1 rfl rfl)
abbrev cX6_isLess : ByteArray := prog_25_method_29_code
def yX6_isLess : MethodName := ⟨RX6, "isLess", "(II)Z"⟩
def dkwX6_isLess_2 : List UInt8 := [180, 0, 22, 28, 46, 162, 0, 7, 4, 167, 0, 4, 3, 172]
abbrev dktX6_isLess_2 : List UInt8 := dkwX6_isLess_2 ++ []
def dkwX6_isLess_1 : List UInt8 := [42, 180, 0, 16, 28, 46, 162, 0, 7, 4, 167, 0, 4, 3, 172, 42, 180, 0, 22, 27, 46, 42]
abbrev dktX6_isLess_1 : List UInt8 := dkwX6_isLess_1 ++ dktX6_isLess_2
def dkwX6_isLess_0 : List UInt8 := [42, 180, 0, 13, 27, 46, 154, 0, 33, 42, 180, 0, 13, 28, 46, 154, 0, 24, 42, 180, 0, 16, 27, 46]
abbrev dktX6_isLess_0 : List UInt8 := dkwX6_isLess_0 ++ dktX6_isLess_1
theorem dksX6_isLess_0 : cX6_isLess.data.toList.drop 0 = dktX6_isLess_0 := by decide +kernel
theorem dksX6_isLess_1 : cX6_isLess.data.toList.drop 24 = dktX6_isLess_1 := dk_seg dksX6_isLess_0 24 rfl rfl
theorem dksX6_isLess_2 : cX6_isLess.data.toList.drop 46 = dktX6_isLess_2 := dk_seg dksX6_isLess_1 22 rfl rfl
theorem dX6_isLess_0 : decode cX6_isLess 0 = .ok (.aload_n 0, 1) := dk_42 (dk_at dksX6_isLess_0 0 rfl rfl)
theorem dX6_isLess_1 : decode cX6_isLess 1 = .ok (.getfield 13, 3) := dk_180 0 13 (dk_at dksX6_isLess_0 1 rfl rfl)
theorem dX6_isLess_4 : decode cX6_isLess 4 = .ok (.iload_n 1, 1) := dk_27 (dk_at dksX6_isLess_0 4 rfl rfl)
theorem dX6_isLess_5 : decode cX6_isLess 5 = .ok (.iaload, 1) := dk_46 (dk_at dksX6_isLess_0 5 rfl rfl)
theorem dX6_isLess_6 : decode cX6_isLess 6 = .ok (.ifCond .ne 33, 3) := dk_154 0 33 (dk_at dksX6_isLess_0 6 rfl rfl)
theorem dX6_isLess_9 : decode cX6_isLess 9 = .ok (.aload_n 0, 1) := dk_42 (dk_at dksX6_isLess_0 9 rfl rfl)
theorem dX6_isLess_10 : decode cX6_isLess 10 = .ok (.getfield 13, 3) := dk_180 0 13 (dk_at dksX6_isLess_0 10 rfl rfl)
theorem dX6_isLess_13 : decode cX6_isLess 13 = .ok (.iload_n 2, 1) := dk_28 (dk_at dksX6_isLess_0 13 rfl rfl)
theorem dX6_isLess_14 : decode cX6_isLess 14 = .ok (.iaload, 1) := dk_46 (dk_at dksX6_isLess_0 14 rfl rfl)
theorem dX6_isLess_15 : decode cX6_isLess 15 = .ok (.ifCond .ne 24, 3) := dk_154 0 24 (dk_at dksX6_isLess_0 15 rfl rfl)
theorem dX6_isLess_18 : decode cX6_isLess 18 = .ok (.aload_n 0, 1) := dk_42 (dk_at dksX6_isLess_0 18 rfl rfl)
theorem dX6_isLess_19 : decode cX6_isLess 19 = .ok (.getfield 16, 3) := dk_180 0 16 (dk_at dksX6_isLess_0 19 rfl rfl)
theorem dX6_isLess_22 : decode cX6_isLess 22 = .ok (.iload_n 1, 1) := dk_27 (dk_at dksX6_isLess_0 22 rfl rfl)
theorem dX6_isLess_23 : decode cX6_isLess 23 = .ok (.iaload, 1) := dk_46 (dk_at dksX6_isLess_0 23 rfl rfl)
theorem dX6_isLess_24 : decode cX6_isLess 24 = .ok (.aload_n 0, 1) := dk_42 (dk_at dksX6_isLess_1 0 rfl rfl)
theorem dX6_isLess_25 : decode cX6_isLess 25 = .ok (.getfield 16, 3) := dk_180 0 16 (dk_at dksX6_isLess_1 1 rfl rfl)
theorem dX6_isLess_28 : decode cX6_isLess 28 = .ok (.iload_n 2, 1) := dk_28 (dk_at dksX6_isLess_1 4 rfl rfl)
theorem dX6_isLess_29 : decode cX6_isLess 29 = .ok (.iaload, 1) := dk_46 (dk_at dksX6_isLess_1 5 rfl rfl)
theorem dX6_isLess_30 : decode cX6_isLess 30 = .ok (.if_icmp .ge 7, 3) := dk_162 0 7 (dk_at dksX6_isLess_1 6 rfl rfl)
theorem dX6_isLess_33 : decode cX6_isLess 33 = .ok (.iconst 1, 1) := dk_4 (dk_at dksX6_isLess_1 9 rfl rfl)
theorem dX6_isLess_34 : decode cX6_isLess 34 = .ok (.goto 4, 3) := dk_167 0 4 (dk_at dksX6_isLess_1 10 rfl rfl)
theorem dX6_isLess_37 : decode cX6_isLess 37 = .ok (.iconst 0, 1) := dk_3 (dk_at dksX6_isLess_1 13 rfl rfl)
theorem dX6_isLess_38 : decode cX6_isLess 38 = .ok (.ireturn, 1) := dk_172 (dk_at dksX6_isLess_1 14 rfl rfl)
theorem dX6_isLess_39 : decode cX6_isLess 39 = .ok (.aload_n 0, 1) := dk_42 (dk_at dksX6_isLess_1 15 rfl rfl)
theorem dX6_isLess_40 : decode cX6_isLess 40 = .ok (.getfield 22, 3) := dk_180 0 22 (dk_at dksX6_isLess_1 16 rfl rfl)
theorem dX6_isLess_43 : decode cX6_isLess 43 = .ok (.iload_n 1, 1) := dk_27 (dk_at dksX6_isLess_1 19 rfl rfl)
theorem dX6_isLess_44 : decode cX6_isLess 44 = .ok (.iaload, 1) := dk_46 (dk_at dksX6_isLess_1 20 rfl rfl)
theorem dX6_isLess_45 : decode cX6_isLess 45 = .ok (.aload_n 0, 1) := dk_42 (dk_at dksX6_isLess_1 21 rfl rfl)
theorem dX6_isLess_46 : decode cX6_isLess 46 = .ok (.getfield 22, 3) := dk_180 0 22 (dk_at dksX6_isLess_2 0 rfl rfl)
theorem dX6_isLess_49 : decode cX6_isLess 49 = .ok (.iload_n 2, 1) := dk_28 (dk_at dksX6_isLess_2 3 rfl rfl)
theorem dX6_isLess_50 : decode cX6_isLess 50 = .ok (.iaload, 1) := dk_46 (dk_at dksX6_isLess_2 4 rfl rfl)
theorem dX6_isLess_51 : decode cX6_isLess 51 = .ok (.if_icmp .ge 7, 3) := dk_162 0 7 (dk_at dksX6_isLess_2 5 rfl rfl)
theorem dX6_isLess_54 : decode cX6_isLess 54 = .ok (.iconst 1, 1) := dk_4 (dk_at dksX6_isLess_2 8 rfl rfl)
theorem dX6_isLess_55 : decode cX6_isLess 55 = .ok (.goto 4, 3) := dk_167 0 4 (dk_at dksX6_isLess_2 9 rfl rfl)
theorem dX6_isLess_58 : decode cX6_isLess 58 = .ok (.iconst 0, 1) := dk_3 (dk_at dksX6_isLess_2 12 rfl rfl)
theorem dX6_isLess_59 : decode cX6_isLess 59 = .ok (.ireturn, 1) := dk_172 (dk_at dksX6_isLess_2 13 rfl rfl)
abbrev cX6_areSame : ByteArray := prog_25_method_18_code
def yX6_areSame : MethodName := ⟨RX6, "areSame", "(II)Z"⟩
def dkwX6_areSame_2 : List UInt8 := [167, 255, 229, 4, 172]
abbrev dktX6_areSame_2 : List UInt8 := dkwX6_areSame_2 ++ []
def dkwX6_areSame_1 : List UInt8 := [180, 0, 22, 27, 46, 96, 162, 0, 21, 42, 29, 27, 28, 182, 0, 152, 154, 0, 5, 3, 172, 132, 3, 1]
abbrev dktX6_areSame_1 : List UInt8 := dkwX6_areSame_1 ++ dktX6_areSame_2
def dkwX6_areSame_0 : List UInt8 := [42, 180, 0, 22, 27, 46, 42, 180, 0, 22, 28, 46, 159, 0, 5, 3, 172, 27, 62, 29, 27, 42]
abbrev dktX6_areSame_0 : List UInt8 := dkwX6_areSame_0 ++ dktX6_areSame_1
theorem dksX6_areSame_0 : cX6_areSame.data.toList.drop 0 = dktX6_areSame_0 := by decide +kernel
theorem dksX6_areSame_1 : cX6_areSame.data.toList.drop 22 = dktX6_areSame_1 := dk_seg dksX6_areSame_0 22 rfl rfl
theorem dksX6_areSame_2 : cX6_areSame.data.toList.drop 46 = dktX6_areSame_2 := dk_seg dksX6_areSame_1 24 rfl rfl
theorem dX6_areSame_0 : decode cX6_areSame 0 = .ok (.aload_n 0, 1) := dk_42 (dk_at dksX6_areSame_0 0 rfl rfl)
theorem dX6_areSame_1 : decode cX6_areSame 1 = .ok (.getfield 22, 3) := dk_180 0 22 (dk_at dksX6_areSame_0 1 rfl rfl)
theorem dX6_areSame_4 : decode cX6_areSame 4 = .ok (.iload_n 1, 1) := dk_27 (dk_at dksX6_areSame_0 4 rfl rfl)
theorem dX6_areSame_5 : decode cX6_areSame 5 = .ok (.iaload, 1) := dk_46 (dk_at dksX6_areSame_0 5 rfl rfl)
theorem dX6_areSame_6 : decode cX6_areSame 6 = .ok (.aload_n 0, 1) := dk_42 (dk_at dksX6_areSame_0 6 rfl rfl)
theorem dX6_areSame_7 : decode cX6_areSame 7 = .ok (.getfield 22, 3) := dk_180 0 22 (dk_at dksX6_areSame_0 7 rfl rfl)
theorem dX6_areSame_10 : decode cX6_areSame 10 = .ok (.iload_n 2, 1) := dk_28 (dk_at dksX6_areSame_0 10 rfl rfl)
theorem dX6_areSame_11 : decode cX6_areSame 11 = .ok (.iaload, 1) := dk_46 (dk_at dksX6_areSame_0 11 rfl rfl)
theorem dX6_areSame_12 : decode cX6_areSame 12 = .ok (.if_icmp .eq 5, 3) := dk_159 0 5 (dk_at dksX6_areSame_0 12 rfl rfl)
theorem dX6_areSame_15 : decode cX6_areSame 15 = .ok (.iconst 0, 1) := dk_3 (dk_at dksX6_areSame_0 15 rfl rfl)
theorem dX6_areSame_16 : decode cX6_areSame 16 = .ok (.ireturn, 1) := dk_172 (dk_at dksX6_areSame_0 16 rfl rfl)
theorem dX6_areSame_17 : decode cX6_areSame 17 = .ok (.iload_n 1, 1) := dk_27 (dk_at dksX6_areSame_0 17 rfl rfl)
theorem dX6_areSame_18 : decode cX6_areSame 18 = .ok (.istore_n 3, 1) := dk_62 (dk_at dksX6_areSame_0 18 rfl rfl)
theorem dX6_areSame_19 : decode cX6_areSame 19 = .ok (.iload_n 3, 1) := dk_29 (dk_at dksX6_areSame_0 19 rfl rfl)
theorem dX6_areSame_20 : decode cX6_areSame 20 = .ok (.iload_n 1, 1) := dk_27 (dk_at dksX6_areSame_0 20 rfl rfl)
theorem dX6_areSame_21 : decode cX6_areSame 21 = .ok (.aload_n 0, 1) := dk_42 (dk_at dksX6_areSame_0 21 rfl rfl)
theorem dX6_areSame_22 : decode cX6_areSame 22 = .ok (.getfield 22, 3) := dk_180 0 22 (dk_at dksX6_areSame_1 0 rfl rfl)
theorem dX6_areSame_25 : decode cX6_areSame 25 = .ok (.iload_n 1, 1) := dk_27 (dk_at dksX6_areSame_1 3 rfl rfl)
theorem dX6_areSame_26 : decode cX6_areSame 26 = .ok (.iaload, 1) := dk_46 (dk_at dksX6_areSame_1 4 rfl rfl)
theorem dX6_areSame_27 : decode cX6_areSame 27 = .ok (.iadd, 1) := dk_96 (dk_at dksX6_areSame_1 5 rfl rfl)
theorem dX6_areSame_28 : decode cX6_areSame 28 = .ok (.if_icmp .ge 21, 3) := dk_162 0 21 (dk_at dksX6_areSame_1 6 rfl rfl)
theorem dX6_areSame_31 : decode cX6_areSame 31 = .ok (.aload_n 0, 1) := dk_42 (dk_at dksX6_areSame_1 9 rfl rfl)
theorem dX6_areSame_32 : decode cX6_areSame 32 = .ok (.iload_n 3, 1) := dk_29 (dk_at dksX6_areSame_1 10 rfl rfl)
theorem dX6_areSame_33 : decode cX6_areSame 33 = .ok (.iload_n 1, 1) := dk_27 (dk_at dksX6_areSame_1 11 rfl rfl)
theorem dX6_areSame_34 : decode cX6_areSame 34 = .ok (.iload_n 2, 1) := dk_28 (dk_at dksX6_areSame_1 12 rfl rfl)
theorem dX6_areSame_35 : decode cX6_areSame 35 = .ok (.invokevirtual 152, 3) := dk_182 0 152 (dk_at dksX6_areSame_1 13 rfl rfl)
theorem dX6_areSame_38 : decode cX6_areSame 38 = .ok (.ifCond .ne 5, 3) := dk_154 0 5 (dk_at dksX6_areSame_1 16 rfl rfl)
theorem dX6_areSame_41 : decode cX6_areSame 41 = .ok (.iconst 0, 1) := dk_3 (dk_at dksX6_areSame_1 19 rfl rfl)
theorem dX6_areSame_42 : decode cX6_areSame 42 = .ok (.ireturn, 1) := dk_172 (dk_at dksX6_areSame_1 20 rfl rfl)
theorem dX6_areSame_43 : decode cX6_areSame 43 = .ok (.iinc 3 1, 3) := dk_132 3 1 (dk_at dksX6_areSame_1 21 rfl rfl)
theorem dX6_areSame_46 : decode cX6_areSame 46 = .ok (.goto (-27), 3) := dk_167 255 229 (dk_at dksX6_areSame_2 0 rfl rfl)
theorem dX6_areSame_49 : decode cX6_areSame 49 = .ok (.iconst 1, 1) := dk_4 (dk_at dksX6_areSame_2 3 rfl rfl)
theorem dX6_areSame_50 : decode cX6_areSame 50 = .ok (.ireturn, 1) := dk_172 (dk_at dksX6_areSame_2 4 rfl rfl)
abbrev cX6_hasAlike : ByteArray := prog_25_method_17_code
def yX6_hasAlike : MethodName := ⟨RX6, "hasAlike", "(III)Z"⟩
def dkwX6_hasAlike_4 : List UInt8 := [180, 0, 16, 27, 46, 160, 0, 5, 4, 172, 132, 5, 1, 167, 255, 177, 3, 172]
abbrev dktX6_hasAlike_4 : List UInt8 := dkwX6_hasAlike_4 ++ []
def dkwX6_hasAlike_3 : List UInt8 := [180, 0, 13, 21, 5, 46, 42, 180, 0, 13, 27, 46, 160, 0, 21, 42, 180, 0, 16, 21, 5, 46, 42]
abbrev dktX6_hasAlike_3 : List UInt8 := dkwX6_hasAlike_3 ++ dktX6_hasAlike_4
def dkwX6_hasAlike_2 : List UInt8 := [180, 0, 25, 21, 5, 46, 42, 180, 0, 25, 29, 46, 184, 0, 149, 112, 21, 4, 160, 0, 37, 42]
abbrev dktX6_hasAlike_2 : List UInt8 := dkwX6_hasAlike_2 ++ dktX6_hasAlike_3
def dkwX6_hasAlike_1 : List UInt8 := [29, 54, 5, 21, 5, 29, 42, 180, 0, 22, 29, 46, 96, 162, 0, 72, 42, 180, 0, 25, 21, 5, 46, 42]
abbrev dktX6_hasAlike_1 : List UInt8 := dkwX6_hasAlike_1 ++ dktX6_hasAlike_2
def dkwX6_hasAlike_0 : List UInt8 := [42, 180, 0, 25, 27, 46, 42, 180, 0, 25, 27, 46, 42, 180, 0, 25, 28, 46, 184, 0, 149, 112, 54, 4]
abbrev dktX6_hasAlike_0 : List UInt8 := dkwX6_hasAlike_0 ++ dktX6_hasAlike_1
theorem dksX6_hasAlike_0 : cX6_hasAlike.data.toList.drop 0 = dktX6_hasAlike_0 := by decide +kernel
theorem dksX6_hasAlike_1 : cX6_hasAlike.data.toList.drop 24 = dktX6_hasAlike_1 := dk_seg dksX6_hasAlike_0 24 rfl rfl
theorem dksX6_hasAlike_2 : cX6_hasAlike.data.toList.drop 48 = dktX6_hasAlike_2 := dk_seg dksX6_hasAlike_1 24 rfl rfl
theorem dksX6_hasAlike_3 : cX6_hasAlike.data.toList.drop 70 = dktX6_hasAlike_3 := dk_seg dksX6_hasAlike_2 22 rfl rfl
theorem dksX6_hasAlike_4 : cX6_hasAlike.data.toList.drop 93 = dktX6_hasAlike_4 := dk_seg dksX6_hasAlike_3 23 rfl rfl
theorem dX6_hasAlike_0 : decode cX6_hasAlike 0 = .ok (.aload_n 0, 1) := dk_42 (dk_at dksX6_hasAlike_0 0 rfl rfl)
theorem dX6_hasAlike_1 : decode cX6_hasAlike 1 = .ok (.getfield 25, 3) := dk_180 0 25 (dk_at dksX6_hasAlike_0 1 rfl rfl)
theorem dX6_hasAlike_4 : decode cX6_hasAlike 4 = .ok (.iload_n 1, 1) := dk_27 (dk_at dksX6_hasAlike_0 4 rfl rfl)
theorem dX6_hasAlike_5 : decode cX6_hasAlike 5 = .ok (.iaload, 1) := dk_46 (dk_at dksX6_hasAlike_0 5 rfl rfl)
theorem dX6_hasAlike_6 : decode cX6_hasAlike 6 = .ok (.aload_n 0, 1) := dk_42 (dk_at dksX6_hasAlike_0 6 rfl rfl)
theorem dX6_hasAlike_7 : decode cX6_hasAlike 7 = .ok (.getfield 25, 3) := dk_180 0 25 (dk_at dksX6_hasAlike_0 7 rfl rfl)
theorem dX6_hasAlike_10 : decode cX6_hasAlike 10 = .ok (.iload_n 1, 1) := dk_27 (dk_at dksX6_hasAlike_0 10 rfl rfl)
theorem dX6_hasAlike_11 : decode cX6_hasAlike 11 = .ok (.iaload, 1) := dk_46 (dk_at dksX6_hasAlike_0 11 rfl rfl)
theorem dX6_hasAlike_12 : decode cX6_hasAlike 12 = .ok (.aload_n 0, 1) := dk_42 (dk_at dksX6_hasAlike_0 12 rfl rfl)
theorem dX6_hasAlike_13 : decode cX6_hasAlike 13 = .ok (.getfield 25, 3) := dk_180 0 25 (dk_at dksX6_hasAlike_0 13 rfl rfl)
theorem dX6_hasAlike_16 : decode cX6_hasAlike 16 = .ok (.iload_n 2, 1) := dk_28 (dk_at dksX6_hasAlike_0 16 rfl rfl)
theorem dX6_hasAlike_17 : decode cX6_hasAlike 17 = .ok (.iaload, 1) := dk_46 (dk_at dksX6_hasAlike_0 17 rfl rfl)
theorem dX6_hasAlike_18 : decode cX6_hasAlike 18 = .ok (.invokestatic 149, 3) := dk_184 0 149 (dk_at dksX6_hasAlike_0 18 rfl rfl)
theorem dX6_hasAlike_21 : decode cX6_hasAlike 21 = .ok (.irem, 1) := dk_112 (dk_at dksX6_hasAlike_0 21 rfl rfl)
theorem dX6_hasAlike_22 : decode cX6_hasAlike 22 = .ok (.istore 4, 2) := dk_54 4 (dk_at dksX6_hasAlike_0 22 rfl rfl)
theorem dX6_hasAlike_24 : decode cX6_hasAlike 24 = .ok (.iload_n 3, 1) := dk_29 (dk_at dksX6_hasAlike_1 0 rfl rfl)
theorem dX6_hasAlike_25 : decode cX6_hasAlike 25 = .ok (.istore 5, 2) := dk_54 5 (dk_at dksX6_hasAlike_1 1 rfl rfl)
theorem dX6_hasAlike_27 : decode cX6_hasAlike 27 = .ok (.iload 5, 2) := dk_21 5 (dk_at dksX6_hasAlike_1 3 rfl rfl)
theorem dX6_hasAlike_29 : decode cX6_hasAlike 29 = .ok (.iload_n 3, 1) := dk_29 (dk_at dksX6_hasAlike_1 5 rfl rfl)
theorem dX6_hasAlike_30 : decode cX6_hasAlike 30 = .ok (.aload_n 0, 1) := dk_42 (dk_at dksX6_hasAlike_1 6 rfl rfl)
theorem dX6_hasAlike_31 : decode cX6_hasAlike 31 = .ok (.getfield 22, 3) := dk_180 0 22 (dk_at dksX6_hasAlike_1 7 rfl rfl)
theorem dX6_hasAlike_34 : decode cX6_hasAlike 34 = .ok (.iload_n 3, 1) := dk_29 (dk_at dksX6_hasAlike_1 10 rfl rfl)
theorem dX6_hasAlike_35 : decode cX6_hasAlike 35 = .ok (.iaload, 1) := dk_46 (dk_at dksX6_hasAlike_1 11 rfl rfl)
theorem dX6_hasAlike_36 : decode cX6_hasAlike 36 = .ok (.iadd, 1) := dk_96 (dk_at dksX6_hasAlike_1 12 rfl rfl)
theorem dX6_hasAlike_37 : decode cX6_hasAlike 37 = .ok (.if_icmp .ge 72, 3) := dk_162 0 72 (dk_at dksX6_hasAlike_1 13 rfl rfl)
theorem dX6_hasAlike_40 : decode cX6_hasAlike 40 = .ok (.aload_n 0, 1) := dk_42 (dk_at dksX6_hasAlike_1 16 rfl rfl)
theorem dX6_hasAlike_41 : decode cX6_hasAlike 41 = .ok (.getfield 25, 3) := dk_180 0 25 (dk_at dksX6_hasAlike_1 17 rfl rfl)
theorem dX6_hasAlike_44 : decode cX6_hasAlike 44 = .ok (.iload 5, 2) := dk_21 5 (dk_at dksX6_hasAlike_1 20 rfl rfl)
theorem dX6_hasAlike_46 : decode cX6_hasAlike 46 = .ok (.iaload, 1) := dk_46 (dk_at dksX6_hasAlike_1 22 rfl rfl)
theorem dX6_hasAlike_47 : decode cX6_hasAlike 47 = .ok (.aload_n 0, 1) := dk_42 (dk_at dksX6_hasAlike_1 23 rfl rfl)
theorem dX6_hasAlike_48 : decode cX6_hasAlike 48 = .ok (.getfield 25, 3) := dk_180 0 25 (dk_at dksX6_hasAlike_2 0 rfl rfl)
theorem dX6_hasAlike_51 : decode cX6_hasAlike 51 = .ok (.iload 5, 2) := dk_21 5 (dk_at dksX6_hasAlike_2 3 rfl rfl)
theorem dX6_hasAlike_53 : decode cX6_hasAlike 53 = .ok (.iaload, 1) := dk_46 (dk_at dksX6_hasAlike_2 5 rfl rfl)
theorem dX6_hasAlike_54 : decode cX6_hasAlike 54 = .ok (.aload_n 0, 1) := dk_42 (dk_at dksX6_hasAlike_2 6 rfl rfl)
theorem dX6_hasAlike_55 : decode cX6_hasAlike 55 = .ok (.getfield 25, 3) := dk_180 0 25 (dk_at dksX6_hasAlike_2 7 rfl rfl)
theorem dX6_hasAlike_58 : decode cX6_hasAlike 58 = .ok (.iload_n 3, 1) := dk_29 (dk_at dksX6_hasAlike_2 10 rfl rfl)
theorem dX6_hasAlike_59 : decode cX6_hasAlike 59 = .ok (.iaload, 1) := dk_46 (dk_at dksX6_hasAlike_2 11 rfl rfl)
theorem dX6_hasAlike_60 : decode cX6_hasAlike 60 = .ok (.invokestatic 149, 3) := dk_184 0 149 (dk_at dksX6_hasAlike_2 12 rfl rfl)
theorem dX6_hasAlike_63 : decode cX6_hasAlike 63 = .ok (.irem, 1) := dk_112 (dk_at dksX6_hasAlike_2 15 rfl rfl)
theorem dX6_hasAlike_64 : decode cX6_hasAlike 64 = .ok (.iload 4, 2) := dk_21 4 (dk_at dksX6_hasAlike_2 16 rfl rfl)
theorem dX6_hasAlike_66 : decode cX6_hasAlike 66 = .ok (.if_icmp .ne 37, 3) := dk_160 0 37 (dk_at dksX6_hasAlike_2 18 rfl rfl)
theorem dX6_hasAlike_69 : decode cX6_hasAlike 69 = .ok (.aload_n 0, 1) := dk_42 (dk_at dksX6_hasAlike_2 21 rfl rfl)
theorem dX6_hasAlike_70 : decode cX6_hasAlike 70 = .ok (.getfield 13, 3) := dk_180 0 13 (dk_at dksX6_hasAlike_3 0 rfl rfl)
theorem dX6_hasAlike_73 : decode cX6_hasAlike 73 = .ok (.iload 5, 2) := dk_21 5 (dk_at dksX6_hasAlike_3 3 rfl rfl)
theorem dX6_hasAlike_75 : decode cX6_hasAlike 75 = .ok (.iaload, 1) := dk_46 (dk_at dksX6_hasAlike_3 5 rfl rfl)
theorem dX6_hasAlike_76 : decode cX6_hasAlike 76 = .ok (.aload_n 0, 1) := dk_42 (dk_at dksX6_hasAlike_3 6 rfl rfl)
theorem dX6_hasAlike_77 : decode cX6_hasAlike 77 = .ok (.getfield 13, 3) := dk_180 0 13 (dk_at dksX6_hasAlike_3 7 rfl rfl)
theorem dX6_hasAlike_80 : decode cX6_hasAlike 80 = .ok (.iload_n 1, 1) := dk_27 (dk_at dksX6_hasAlike_3 10 rfl rfl)
theorem dX6_hasAlike_81 : decode cX6_hasAlike 81 = .ok (.iaload, 1) := dk_46 (dk_at dksX6_hasAlike_3 11 rfl rfl)
theorem dX6_hasAlike_82 : decode cX6_hasAlike 82 = .ok (.if_icmp .ne 21, 3) := dk_160 0 21 (dk_at dksX6_hasAlike_3 12 rfl rfl)
theorem dX6_hasAlike_85 : decode cX6_hasAlike 85 = .ok (.aload_n 0, 1) := dk_42 (dk_at dksX6_hasAlike_3 15 rfl rfl)
theorem dX6_hasAlike_86 : decode cX6_hasAlike 86 = .ok (.getfield 16, 3) := dk_180 0 16 (dk_at dksX6_hasAlike_3 16 rfl rfl)
theorem dX6_hasAlike_89 : decode cX6_hasAlike 89 = .ok (.iload 5, 2) := dk_21 5 (dk_at dksX6_hasAlike_3 19 rfl rfl)
theorem dX6_hasAlike_91 : decode cX6_hasAlike 91 = .ok (.iaload, 1) := dk_46 (dk_at dksX6_hasAlike_3 21 rfl rfl)
theorem dX6_hasAlike_92 : decode cX6_hasAlike 92 = .ok (.aload_n 0, 1) := dk_42 (dk_at dksX6_hasAlike_3 22 rfl rfl)
theorem dX6_hasAlike_93 : decode cX6_hasAlike 93 = .ok (.getfield 16, 3) := dk_180 0 16 (dk_at dksX6_hasAlike_4 0 rfl rfl)
theorem dX6_hasAlike_96 : decode cX6_hasAlike 96 = .ok (.iload_n 1, 1) := dk_27 (dk_at dksX6_hasAlike_4 3 rfl rfl)
theorem dX6_hasAlike_97 : decode cX6_hasAlike 97 = .ok (.iaload, 1) := dk_46 (dk_at dksX6_hasAlike_4 4 rfl rfl)
theorem dX6_hasAlike_98 : decode cX6_hasAlike 98 = .ok (.if_icmp .ne 5, 3) := dk_160 0 5 (dk_at dksX6_hasAlike_4 5 rfl rfl)
theorem dX6_hasAlike_101 : decode cX6_hasAlike 101 = .ok (.iconst 1, 1) := dk_4 (dk_at dksX6_hasAlike_4 8 rfl rfl)
theorem dX6_hasAlike_102 : decode cX6_hasAlike 102 = .ok (.ireturn, 1) := dk_172 (dk_at dksX6_hasAlike_4 9 rfl rfl)
theorem dX6_hasAlike_103 : decode cX6_hasAlike 103 = .ok (.iinc 5 1, 3) := dk_132 5 1 (dk_at dksX6_hasAlike_4 10 rfl rfl)
theorem dX6_hasAlike_106 : decode cX6_hasAlike 106 = .ok (.goto (-79), 3) := dk_167 255 177 (dk_at dksX6_hasAlike_4 13 rfl rfl)
theorem dX6_hasAlike_109 : decode cX6_hasAlike 109 = .ok (.iconst 0, 1) := dk_3 (dk_at dksX6_hasAlike_4 16 rfl rfl)
theorem dX6_hasAlike_110 : decode cX6_hasAlike 110 = .ok (.ireturn, 1) := dk_172 (dk_at dksX6_hasAlike_4 17 rfl rfl)
abbrev cX6_unitFor : ByteArray := prog_25_method_16_code
def yX6_unitFor : MethodName := ⟨RX6, "unitFor", "(II)I"⟩
def dkwX6_unitFor_0 : List UInt8 := [4, 61, 26, 62, 29, 27, 159, 0, 16, 28, 16, 10, 104, 61, 29, 16, 10, 108, 62, 167, 255, 241, 28, 172]
abbrev dktX6_unitFor_0 : List UInt8 := dkwX6_unitFor_0 ++ []
theorem dksX6_unitFor_0 : cX6_unitFor.data.toList.drop 0 = dktX6_unitFor_0 := by decide +kernel
theorem dX6_unitFor_0 : decode cX6_unitFor 0 = .ok (.iconst 1, 1) := dk_4 (dk_at dksX6_unitFor_0 0 rfl rfl)
theorem dX6_unitFor_1 : decode cX6_unitFor 1 = .ok (.istore_n 2, 1) := dk_61 (dk_at dksX6_unitFor_0 1 rfl rfl)
theorem dX6_unitFor_2 : decode cX6_unitFor 2 = .ok (.iload_n 0, 1) := dk_26 (dk_at dksX6_unitFor_0 2 rfl rfl)
theorem dX6_unitFor_3 : decode cX6_unitFor 3 = .ok (.istore_n 3, 1) := dk_62 (dk_at dksX6_unitFor_0 3 rfl rfl)
theorem dX6_unitFor_4 : decode cX6_unitFor 4 = .ok (.iload_n 3, 1) := dk_29 (dk_at dksX6_unitFor_0 4 rfl rfl)
theorem dX6_unitFor_5 : decode cX6_unitFor 5 = .ok (.iload_n 1, 1) := dk_27 (dk_at dksX6_unitFor_0 5 rfl rfl)
theorem dX6_unitFor_6 : decode cX6_unitFor 6 = .ok (.if_icmp .eq 16, 3) := dk_159 0 16 (dk_at dksX6_unitFor_0 6 rfl rfl)
theorem dX6_unitFor_9 : decode cX6_unitFor 9 = .ok (.iload_n 2, 1) := dk_28 (dk_at dksX6_unitFor_0 9 rfl rfl)
theorem dX6_unitFor_10 : decode cX6_unitFor 10 = .ok (.bipush 10, 2) := dk_16 10 (dk_at dksX6_unitFor_0 10 rfl rfl)
theorem dX6_unitFor_12 : decode cX6_unitFor 12 = .ok (.imul, 1) := dk_104 (dk_at dksX6_unitFor_0 12 rfl rfl)
theorem dX6_unitFor_13 : decode cX6_unitFor 13 = .ok (.istore_n 2, 1) := dk_61 (dk_at dksX6_unitFor_0 13 rfl rfl)
theorem dX6_unitFor_14 : decode cX6_unitFor 14 = .ok (.iload_n 3, 1) := dk_29 (dk_at dksX6_unitFor_0 14 rfl rfl)
theorem dX6_unitFor_15 : decode cX6_unitFor 15 = .ok (.bipush 10, 2) := dk_16 10 (dk_at dksX6_unitFor_0 15 rfl rfl)
theorem dX6_unitFor_17 : decode cX6_unitFor 17 = .ok (.idiv, 1) := dk_108 (dk_at dksX6_unitFor_0 17 rfl rfl)
theorem dX6_unitFor_18 : decode cX6_unitFor 18 = .ok (.istore_n 3, 1) := dk_62 (dk_at dksX6_unitFor_0 18 rfl rfl)
theorem dX6_unitFor_19 : decode cX6_unitFor 19 = .ok (.goto (-15), 3) := dk_167 255 241 (dk_at dksX6_unitFor_0 19 rfl rfl)
theorem dX6_unitFor_22 : decode cX6_unitFor 22 = .ok (.iload_n 2, 1) := dk_28 (dk_at dksX6_unitFor_0 22 rfl rfl)
theorem dX6_unitFor_23 : decode cX6_unitFor 23 = .ok (.ireturn, 1) := dk_172 (dk_at dksX6_unitFor_0 23 rfl rfl)
abbrev cX6_findsList : ByteArray := prog_25_method_33_code
def yX6_findsList : MethodName := ⟨RX6, "findsList", "(II)V"⟩
def dkwX6_findsList_6 : List UInt8 := [182, 0, 210, 177]
abbrev dktX6_findsList_6 : List UInt8 := dkwX6_findsList_6 ++ []
def dkwX6_findsList_5 : List UInt8 := [180, 0, 156, 4, 100, 92, 46, 4, 96, 79, 42, 42, 180, 0, 37, 27, 46, 42, 28, 29, 182, 0, 138]
abbrev dktX6_findsList_5 : List UInt8 := dkwX6_findsList_5 ++ dktX6_findsList_6
def dkwX6_findsList_4 : List UInt8 := [180, 0, 16, 28, 46, 160, 0, 14, 42, 89, 180, 0, 156, 4, 100, 181, 0, 156, 177, 42, 180, 0, 79, 42]
abbrev dktX6_findsList_4 : List UInt8 := dkwX6_findsList_4 ++ dktX6_findsList_5
def dkwX6_findsList_3 : List UInt8 := [27, 46, 184, 0, 213, 154, 0, 15, 42, 42, 180, 0, 25, 28, 46, 16, 11, 182, 0, 162, 29, 42]
abbrev dktX6_findsList_3 : List UInt8 := dkwX6_findsList_3 ++ dktX6_findsList_4
def dkwX6_findsList_2 : List UInt8 := [182, 0, 162, 177, 29, 154, 0, 39, 42, 180, 0, 16, 28, 46, 42, 180, 0, 31, 27, 46, 42, 180, 0, 34]
abbrev dktX6_findsList_2 : List UInt8 := dkwX6_findsList_2 ++ dktX6_findsList_3
def dkwX6_findsList_1 : List UInt8 := [159, 0, 26, 42, 89, 180, 0, 156, 4, 100, 181, 0, 156, 42, 42, 180, 0, 25, 28, 46, 16, 10]
abbrev dktX6_findsList_1 : List UInt8 := dkwX6_findsList_1 ++ dktX6_findsList_2
def dkwX6_findsList_0 : List UInt8 := [42, 180, 0, 79, 42, 180, 0, 156, 4, 100, 46, 62, 29, 154, 0, 36, 42, 180, 0, 13, 28, 46, 6]
abbrev dktX6_findsList_0 : List UInt8 := dkwX6_findsList_0 ++ dktX6_findsList_1
theorem dksX6_findsList_0 : cX6_findsList.data.toList.drop 0 = dktX6_findsList_0 := by decide +kernel
theorem dksX6_findsList_1 : cX6_findsList.data.toList.drop 23 = dktX6_findsList_1 := dk_seg dksX6_findsList_0 23 rfl rfl
theorem dksX6_findsList_2 : cX6_findsList.data.toList.drop 45 = dktX6_findsList_2 := dk_seg dksX6_findsList_1 22 rfl rfl
theorem dksX6_findsList_3 : cX6_findsList.data.toList.drop 69 = dktX6_findsList_3 := dk_seg dksX6_findsList_2 24 rfl rfl
theorem dksX6_findsList_4 : cX6_findsList.data.toList.drop 91 = dktX6_findsList_4 := dk_seg dksX6_findsList_3 22 rfl rfl
theorem dksX6_findsList_5 : cX6_findsList.data.toList.drop 115 = dktX6_findsList_5 := dk_seg dksX6_findsList_4 24 rfl rfl
theorem dksX6_findsList_6 : cX6_findsList.data.toList.drop 138 = dktX6_findsList_6 := dk_seg dksX6_findsList_5 23 rfl rfl
theorem dX6_findsList_0 : decode cX6_findsList 0 = .ok (.aload_n 0, 1) := dk_42 (dk_at dksX6_findsList_0 0 rfl rfl)
theorem dX6_findsList_1 : decode cX6_findsList 1 = .ok (.getfield 79, 3) := dk_180 0 79 (dk_at dksX6_findsList_0 1 rfl rfl)
theorem dX6_findsList_4 : decode cX6_findsList 4 = .ok (.aload_n 0, 1) := dk_42 (dk_at dksX6_findsList_0 4 rfl rfl)
theorem dX6_findsList_5 : decode cX6_findsList 5 = .ok (.getfield 156, 3) := dk_180 0 156 (dk_at dksX6_findsList_0 5 rfl rfl)
theorem dX6_findsList_8 : decode cX6_findsList 8 = .ok (.iconst 1, 1) := dk_4 (dk_at dksX6_findsList_0 8 rfl rfl)
theorem dX6_findsList_9 : decode cX6_findsList 9 = .ok (.isub, 1) := dk_100 (dk_at dksX6_findsList_0 9 rfl rfl)
theorem dX6_findsList_10 : decode cX6_findsList 10 = .ok (.iaload, 1) := dk_46 (dk_at dksX6_findsList_0 10 rfl rfl)
theorem dX6_findsList_11 : decode cX6_findsList 11 = .ok (.istore_n 3, 1) := dk_62 (dk_at dksX6_findsList_0 11 rfl rfl)
theorem dX6_findsList_12 : decode cX6_findsList 12 = .ok (.iload_n 3, 1) := dk_29 (dk_at dksX6_findsList_0 12 rfl rfl)
theorem dX6_findsList_13 : decode cX6_findsList 13 = .ok (.ifCond .ne 36, 3) := dk_154 0 36 (dk_at dksX6_findsList_0 13 rfl rfl)
theorem dX6_findsList_16 : decode cX6_findsList 16 = .ok (.aload_n 0, 1) := dk_42 (dk_at dksX6_findsList_0 16 rfl rfl)
theorem dX6_findsList_17 : decode cX6_findsList 17 = .ok (.getfield 13, 3) := dk_180 0 13 (dk_at dksX6_findsList_0 17 rfl rfl)
theorem dX6_findsList_20 : decode cX6_findsList 20 = .ok (.iload_n 2, 1) := dk_28 (dk_at dksX6_findsList_0 20 rfl rfl)
theorem dX6_findsList_21 : decode cX6_findsList 21 = .ok (.iaload, 1) := dk_46 (dk_at dksX6_findsList_0 21 rfl rfl)
theorem dX6_findsList_22 : decode cX6_findsList 22 = .ok (.iconst 3, 1) := dk_6 (dk_at dksX6_findsList_0 22 rfl rfl)
theorem dX6_findsList_23 : decode cX6_findsList 23 = .ok (.if_icmp .eq 26, 3) := dk_159 0 26 (dk_at dksX6_findsList_1 0 rfl rfl)
theorem dX6_findsList_26 : decode cX6_findsList 26 = .ok (.aload_n 0, 1) := dk_42 (dk_at dksX6_findsList_1 3 rfl rfl)
theorem dX6_findsList_27 : decode cX6_findsList 27 = .ok (.dup, 1) := dk_89 (dk_at dksX6_findsList_1 4 rfl rfl)
theorem dX6_findsList_28 : decode cX6_findsList 28 = .ok (.getfield 156, 3) := dk_180 0 156 (dk_at dksX6_findsList_1 5 rfl rfl)
theorem dX6_findsList_31 : decode cX6_findsList 31 = .ok (.iconst 1, 1) := dk_4 (dk_at dksX6_findsList_1 8 rfl rfl)
theorem dX6_findsList_32 : decode cX6_findsList 32 = .ok (.isub, 1) := dk_100 (dk_at dksX6_findsList_1 9 rfl rfl)
theorem dX6_findsList_33 : decode cX6_findsList 33 = .ok (.putfield 156, 3) := dk_181 0 156 (dk_at dksX6_findsList_1 10 rfl rfl)
theorem dX6_findsList_36 : decode cX6_findsList 36 = .ok (.aload_n 0, 1) := dk_42 (dk_at dksX6_findsList_1 13 rfl rfl)
theorem dX6_findsList_37 : decode cX6_findsList 37 = .ok (.aload_n 0, 1) := dk_42 (dk_at dksX6_findsList_1 14 rfl rfl)
theorem dX6_findsList_38 : decode cX6_findsList 38 = .ok (.getfield 25, 3) := dk_180 0 25 (dk_at dksX6_findsList_1 15 rfl rfl)
theorem dX6_findsList_41 : decode cX6_findsList 41 = .ok (.iload_n 2, 1) := dk_28 (dk_at dksX6_findsList_1 18 rfl rfl)
theorem dX6_findsList_42 : decode cX6_findsList 42 = .ok (.iaload, 1) := dk_46 (dk_at dksX6_findsList_1 19 rfl rfl)
theorem dX6_findsList_43 : decode cX6_findsList 43 = .ok (.bipush 10, 2) := dk_16 10 (dk_at dksX6_findsList_1 20 rfl rfl)
theorem dX6_findsList_45 : decode cX6_findsList 45 = .ok (.invokevirtual 162, 3) := dk_182 0 162 (dk_at dksX6_findsList_2 0 rfl rfl)
theorem dX6_findsList_48 : decode cX6_findsList 48 = .ok (.return_, 1) := dk_177 (dk_at dksX6_findsList_2 3 rfl rfl)
theorem dX6_findsList_49 : decode cX6_findsList 49 = .ok (.iload_n 3, 1) := dk_29 (dk_at dksX6_findsList_2 4 rfl rfl)
theorem dX6_findsList_50 : decode cX6_findsList 50 = .ok (.ifCond .ne 39, 3) := dk_154 0 39 (dk_at dksX6_findsList_2 5 rfl rfl)
theorem dX6_findsList_53 : decode cX6_findsList 53 = .ok (.aload_n 0, 1) := dk_42 (dk_at dksX6_findsList_2 8 rfl rfl)
theorem dX6_findsList_54 : decode cX6_findsList 54 = .ok (.getfield 16, 3) := dk_180 0 16 (dk_at dksX6_findsList_2 9 rfl rfl)
theorem dX6_findsList_57 : decode cX6_findsList 57 = .ok (.iload_n 2, 1) := dk_28 (dk_at dksX6_findsList_2 12 rfl rfl)
theorem dX6_findsList_58 : decode cX6_findsList 58 = .ok (.iaload, 1) := dk_46 (dk_at dksX6_findsList_2 13 rfl rfl)
theorem dX6_findsList_59 : decode cX6_findsList 59 = .ok (.aload_n 0, 1) := dk_42 (dk_at dksX6_findsList_2 14 rfl rfl)
theorem dX6_findsList_60 : decode cX6_findsList 60 = .ok (.getfield 31, 3) := dk_180 0 31 (dk_at dksX6_findsList_2 15 rfl rfl)
theorem dX6_findsList_63 : decode cX6_findsList 63 = .ok (.iload_n 1, 1) := dk_27 (dk_at dksX6_findsList_2 18 rfl rfl)
theorem dX6_findsList_64 : decode cX6_findsList 64 = .ok (.iaload, 1) := dk_46 (dk_at dksX6_findsList_2 19 rfl rfl)
theorem dX6_findsList_65 : decode cX6_findsList 65 = .ok (.aload_n 0, 1) := dk_42 (dk_at dksX6_findsList_2 20 rfl rfl)
theorem dX6_findsList_66 : decode cX6_findsList 66 = .ok (.getfield 34, 3) := dk_180 0 34 (dk_at dksX6_findsList_2 21 rfl rfl)
theorem dX6_findsList_69 : decode cX6_findsList 69 = .ok (.iload_n 1, 1) := dk_27 (dk_at dksX6_findsList_3 0 rfl rfl)
theorem dX6_findsList_70 : decode cX6_findsList 70 = .ok (.iaload, 1) := dk_46 (dk_at dksX6_findsList_3 1 rfl rfl)
theorem dX6_findsList_71 : decode cX6_findsList 71 = .ok (.invokestatic 213, 3) := dk_184 0 213 (dk_at dksX6_findsList_3 2 rfl rfl)
theorem dX6_findsList_74 : decode cX6_findsList 74 = .ok (.ifCond .ne 15, 3) := dk_154 0 15 (dk_at dksX6_findsList_3 5 rfl rfl)
theorem dX6_findsList_77 : decode cX6_findsList 77 = .ok (.aload_n 0, 1) := dk_42 (dk_at dksX6_findsList_3 8 rfl rfl)
theorem dX6_findsList_78 : decode cX6_findsList 78 = .ok (.aload_n 0, 1) := dk_42 (dk_at dksX6_findsList_3 9 rfl rfl)
theorem dX6_findsList_79 : decode cX6_findsList 79 = .ok (.getfield 25, 3) := dk_180 0 25 (dk_at dksX6_findsList_3 10 rfl rfl)
theorem dX6_findsList_82 : decode cX6_findsList 82 = .ok (.iload_n 2, 1) := dk_28 (dk_at dksX6_findsList_3 13 rfl rfl)
theorem dX6_findsList_83 : decode cX6_findsList 83 = .ok (.iaload, 1) := dk_46 (dk_at dksX6_findsList_3 14 rfl rfl)
theorem dX6_findsList_84 : decode cX6_findsList 84 = .ok (.bipush 11, 2) := dk_16 11 (dk_at dksX6_findsList_3 15 rfl rfl)
theorem dX6_findsList_86 : decode cX6_findsList 86 = .ok (.invokevirtual 162, 3) := dk_182 0 162 (dk_at dksX6_findsList_3 17 rfl rfl)
theorem dX6_findsList_89 : decode cX6_findsList 89 = .ok (.iload_n 3, 1) := dk_29 (dk_at dksX6_findsList_3 20 rfl rfl)
theorem dX6_findsList_90 : decode cX6_findsList 90 = .ok (.aload_n 0, 1) := dk_42 (dk_at dksX6_findsList_3 21 rfl rfl)
theorem dX6_findsList_91 : decode cX6_findsList 91 = .ok (.getfield 16, 3) := dk_180 0 16 (dk_at dksX6_findsList_4 0 rfl rfl)
theorem dX6_findsList_94 : decode cX6_findsList 94 = .ok (.iload_n 2, 1) := dk_28 (dk_at dksX6_findsList_4 3 rfl rfl)
theorem dX6_findsList_95 : decode cX6_findsList 95 = .ok (.iaload, 1) := dk_46 (dk_at dksX6_findsList_4 4 rfl rfl)
theorem dX6_findsList_96 : decode cX6_findsList 96 = .ok (.if_icmp .ne 14, 3) := dk_160 0 14 (dk_at dksX6_findsList_4 5 rfl rfl)
theorem dX6_findsList_99 : decode cX6_findsList 99 = .ok (.aload_n 0, 1) := dk_42 (dk_at dksX6_findsList_4 8 rfl rfl)
theorem dX6_findsList_100 : decode cX6_findsList 100 = .ok (.dup, 1) := dk_89 (dk_at dksX6_findsList_4 9 rfl rfl)
theorem dX6_findsList_101 : decode cX6_findsList 101 = .ok (.getfield 156, 3) := dk_180 0 156 (dk_at dksX6_findsList_4 10 rfl rfl)
theorem dX6_findsList_104 : decode cX6_findsList 104 = .ok (.iconst 1, 1) := dk_4 (dk_at dksX6_findsList_4 13 rfl rfl)
theorem dX6_findsList_105 : decode cX6_findsList 105 = .ok (.isub, 1) := dk_100 (dk_at dksX6_findsList_4 14 rfl rfl)
theorem dX6_findsList_106 : decode cX6_findsList 106 = .ok (.putfield 156, 3) := dk_181 0 156 (dk_at dksX6_findsList_4 15 rfl rfl)
theorem dX6_findsList_109 : decode cX6_findsList 109 = .ok (.return_, 1) := dk_177 (dk_at dksX6_findsList_4 18 rfl rfl)
theorem dX6_findsList_110 : decode cX6_findsList 110 = .ok (.aload_n 0, 1) := dk_42 (dk_at dksX6_findsList_4 19 rfl rfl)
theorem dX6_findsList_111 : decode cX6_findsList 111 = .ok (.getfield 79, 3) := dk_180 0 79 (dk_at dksX6_findsList_4 20 rfl rfl)
theorem dX6_findsList_114 : decode cX6_findsList 114 = .ok (.aload_n 0, 1) := dk_42 (dk_at dksX6_findsList_4 23 rfl rfl)
theorem dX6_findsList_115 : decode cX6_findsList 115 = .ok (.getfield 156, 3) := dk_180 0 156 (dk_at dksX6_findsList_5 0 rfl rfl)
theorem dX6_findsList_118 : decode cX6_findsList 118 = .ok (.iconst 1, 1) := dk_4 (dk_at dksX6_findsList_5 3 rfl rfl)
theorem dX6_findsList_119 : decode cX6_findsList 119 = .ok (.isub, 1) := dk_100 (dk_at dksX6_findsList_5 4 rfl rfl)
theorem dX6_findsList_120 : decode cX6_findsList 120 = .ok (.dup2, 1) := dk_92 (dk_at dksX6_findsList_5 5 rfl rfl)
theorem dX6_findsList_121 : decode cX6_findsList 121 = .ok (.iaload, 1) := dk_46 (dk_at dksX6_findsList_5 6 rfl rfl)
theorem dX6_findsList_122 : decode cX6_findsList 122 = .ok (.iconst 1, 1) := dk_4 (dk_at dksX6_findsList_5 7 rfl rfl)
theorem dX6_findsList_123 : decode cX6_findsList 123 = .ok (.iadd, 1) := dk_96 (dk_at dksX6_findsList_5 8 rfl rfl)
theorem dX6_findsList_124 : decode cX6_findsList 124 = .ok (.iastore, 1) := dk_79 (dk_at dksX6_findsList_5 9 rfl rfl)
theorem dX6_findsList_125 : decode cX6_findsList 125 = .ok (.aload_n 0, 1) := dk_42 (dk_at dksX6_findsList_5 10 rfl rfl)
theorem dX6_findsList_126 : decode cX6_findsList 126 = .ok (.aload_n 0, 1) := dk_42 (dk_at dksX6_findsList_5 11 rfl rfl)
theorem dX6_findsList_127 : decode cX6_findsList 127 = .ok (.getfield 37, 3) := dk_180 0 37 (dk_at dksX6_findsList_5 12 rfl rfl)
theorem dX6_findsList_130 : decode cX6_findsList 130 = .ok (.iload_n 1, 1) := dk_27 (dk_at dksX6_findsList_5 15 rfl rfl)
theorem dX6_findsList_131 : decode cX6_findsList 131 = .ok (.iaload, 1) := dk_46 (dk_at dksX6_findsList_5 16 rfl rfl)
theorem dX6_findsList_132 : decode cX6_findsList 132 = .ok (.aload_n 0, 1) := dk_42 (dk_at dksX6_findsList_5 17 rfl rfl)
theorem dX6_findsList_133 : decode cX6_findsList 133 = .ok (.iload_n 2, 1) := dk_28 (dk_at dksX6_findsList_5 18 rfl rfl)
theorem dX6_findsList_134 : decode cX6_findsList 134 = .ok (.iload_n 3, 1) := dk_29 (dk_at dksX6_findsList_5 19 rfl rfl)
theorem dX6_findsList_135 : decode cX6_findsList 135 = .ok (.invokevirtual 138, 3) := dk_182 0 138 (dk_at dksX6_findsList_5 20 rfl rfl)
theorem dX6_findsList_138 : decode cX6_findsList 138 = .ok (.invokevirtual 210, 3) := dk_182 0 210 (dk_at dksX6_findsList_6 0 rfl rfl)
theorem dX6_findsList_141 : decode cX6_findsList 141 = .ok (.return_, 1) := dk_177 (dk_at dksX6_findsList_6 3 rfl rfl)
abbrev cX6_findsAgain : ByteArray := prog_25_method_35_code
def yX6_findsAgain : MethodName := ⟨RX6, "findsAgain", "(II)V"⟩
def dkwX6_findsAgain_6 : List UInt8 := [167, 255, 207, 177]
abbrev dktX6_findsAgain_6 : List UInt8 := dkwX6_findsAgain_6 ++ []
def dkwX6_findsAgain_5 : List UInt8 := [153, 0, 20, 42, 42, 180, 0, 25, 42, 28, 29, 182, 0, 138, 46, 16, 12, 182, 0, 162, 132, 3, 1]
abbrev dktX6_findsAgain_5 : List UInt8 := dkwX6_findsAgain_5 ++ dktX6_findsAgain_6
def dkwX6_findsAgain_4 : List UInt8 := [180, 0, 16, 28, 46, 162, 0, 45, 42, 180, 0, 13, 28, 46, 6, 160, 0, 35, 42, 28, 29, 182, 0, 216]
abbrev dktX6_findsAgain_4 : List UInt8 := dkwX6_findsAgain_4 ++ dktX6_findsAgain_5
def dkwX6_findsAgain_3 : List UInt8 := [180, 0, 156, 46, 164, 0, 14, 42, 89, 180, 0, 185, 4, 96, 181, 0, 185, 177, 3, 62, 29, 42]
abbrev dktX6_findsAgain_3 : List UInt8 := dkwX6_findsAgain_3 ++ dktX6_findsAgain_4
def dkwX6_findsAgain_2 : List UInt8 := [28, 182, 0, 210, 177, 42, 89, 180, 0, 156, 4, 100, 181, 0, 156, 42, 180, 0, 159, 42, 180, 0, 82, 42]
abbrev dktX6_findsAgain_2 : List UInt8 := dkwX6_findsAgain_2 ++ dktX6_findsAgain_3
def dkwX6_findsAgain_1 : List UInt8 := [4, 79, 42, 180, 0, 82, 42, 180, 0, 156, 4, 100, 42, 180, 0, 159, 79, 42, 42, 180, 0, 37, 27, 46]
abbrev dktX6_findsAgain_1 : List UInt8 := dkwX6_findsAgain_1 ++ dktX6_findsAgain_2
def dkwX6_findsAgain_0 : List UInt8 := [42, 180, 0, 79, 42, 180, 0, 156, 4, 100, 46, 154, 0, 42, 42, 180, 0, 79, 42, 180, 0, 156, 4, 100]
abbrev dktX6_findsAgain_0 : List UInt8 := dkwX6_findsAgain_0 ++ dktX6_findsAgain_1
theorem dksX6_findsAgain_0 : cX6_findsAgain.data.toList.drop 0 = dktX6_findsAgain_0 := by decide +kernel
theorem dksX6_findsAgain_1 : cX6_findsAgain.data.toList.drop 24 = dktX6_findsAgain_1 := dk_seg dksX6_findsAgain_0 24 rfl rfl
theorem dksX6_findsAgain_2 : cX6_findsAgain.data.toList.drop 48 = dktX6_findsAgain_2 := dk_seg dksX6_findsAgain_1 24 rfl rfl
theorem dksX6_findsAgain_3 : cX6_findsAgain.data.toList.drop 72 = dktX6_findsAgain_3 := dk_seg dksX6_findsAgain_2 24 rfl rfl
theorem dksX6_findsAgain_4 : cX6_findsAgain.data.toList.drop 94 = dktX6_findsAgain_4 := dk_seg dksX6_findsAgain_3 22 rfl rfl
theorem dksX6_findsAgain_5 : cX6_findsAgain.data.toList.drop 118 = dktX6_findsAgain_5 := dk_seg dksX6_findsAgain_4 24 rfl rfl
theorem dksX6_findsAgain_6 : cX6_findsAgain.data.toList.drop 141 = dktX6_findsAgain_6 := dk_seg dksX6_findsAgain_5 23 rfl rfl
theorem dX6_findsAgain_0 : decode cX6_findsAgain 0 = .ok (.aload_n 0, 1) := dk_42 (dk_at dksX6_findsAgain_0 0 rfl rfl)
theorem dX6_findsAgain_1 : decode cX6_findsAgain 1 = .ok (.getfield 79, 3) := dk_180 0 79 (dk_at dksX6_findsAgain_0 1 rfl rfl)
theorem dX6_findsAgain_4 : decode cX6_findsAgain 4 = .ok (.aload_n 0, 1) := dk_42 (dk_at dksX6_findsAgain_0 4 rfl rfl)
theorem dX6_findsAgain_5 : decode cX6_findsAgain 5 = .ok (.getfield 156, 3) := dk_180 0 156 (dk_at dksX6_findsAgain_0 5 rfl rfl)
theorem dX6_findsAgain_8 : decode cX6_findsAgain 8 = .ok (.iconst 1, 1) := dk_4 (dk_at dksX6_findsAgain_0 8 rfl rfl)
theorem dX6_findsAgain_9 : decode cX6_findsAgain 9 = .ok (.isub, 1) := dk_100 (dk_at dksX6_findsAgain_0 9 rfl rfl)
theorem dX6_findsAgain_10 : decode cX6_findsAgain 10 = .ok (.iaload, 1) := dk_46 (dk_at dksX6_findsAgain_0 10 rfl rfl)
theorem dX6_findsAgain_11 : decode cX6_findsAgain 11 = .ok (.ifCond .ne 42, 3) := dk_154 0 42 (dk_at dksX6_findsAgain_0 11 rfl rfl)
theorem dX6_findsAgain_14 : decode cX6_findsAgain 14 = .ok (.aload_n 0, 1) := dk_42 (dk_at dksX6_findsAgain_0 14 rfl rfl)
theorem dX6_findsAgain_15 : decode cX6_findsAgain 15 = .ok (.getfield 79, 3) := dk_180 0 79 (dk_at dksX6_findsAgain_0 15 rfl rfl)
theorem dX6_findsAgain_18 : decode cX6_findsAgain 18 = .ok (.aload_n 0, 1) := dk_42 (dk_at dksX6_findsAgain_0 18 rfl rfl)
theorem dX6_findsAgain_19 : decode cX6_findsAgain 19 = .ok (.getfield 156, 3) := dk_180 0 156 (dk_at dksX6_findsAgain_0 19 rfl rfl)
theorem dX6_findsAgain_22 : decode cX6_findsAgain 22 = .ok (.iconst 1, 1) := dk_4 (dk_at dksX6_findsAgain_0 22 rfl rfl)
theorem dX6_findsAgain_23 : decode cX6_findsAgain 23 = .ok (.isub, 1) := dk_100 (dk_at dksX6_findsAgain_0 23 rfl rfl)
theorem dX6_findsAgain_24 : decode cX6_findsAgain 24 = .ok (.iconst 1, 1) := dk_4 (dk_at dksX6_findsAgain_1 0 rfl rfl)
theorem dX6_findsAgain_25 : decode cX6_findsAgain 25 = .ok (.iastore, 1) := dk_79 (dk_at dksX6_findsAgain_1 1 rfl rfl)
theorem dX6_findsAgain_26 : decode cX6_findsAgain 26 = .ok (.aload_n 0, 1) := dk_42 (dk_at dksX6_findsAgain_1 2 rfl rfl)
theorem dX6_findsAgain_27 : decode cX6_findsAgain 27 = .ok (.getfield 82, 3) := dk_180 0 82 (dk_at dksX6_findsAgain_1 3 rfl rfl)
theorem dX6_findsAgain_30 : decode cX6_findsAgain 30 = .ok (.aload_n 0, 1) := dk_42 (dk_at dksX6_findsAgain_1 6 rfl rfl)
theorem dX6_findsAgain_31 : decode cX6_findsAgain 31 = .ok (.getfield 156, 3) := dk_180 0 156 (dk_at dksX6_findsAgain_1 7 rfl rfl)
theorem dX6_findsAgain_34 : decode cX6_findsAgain 34 = .ok (.iconst 1, 1) := dk_4 (dk_at dksX6_findsAgain_1 10 rfl rfl)
theorem dX6_findsAgain_35 : decode cX6_findsAgain 35 = .ok (.isub, 1) := dk_100 (dk_at dksX6_findsAgain_1 11 rfl rfl)
theorem dX6_findsAgain_36 : decode cX6_findsAgain 36 = .ok (.aload_n 0, 1) := dk_42 (dk_at dksX6_findsAgain_1 12 rfl rfl)
theorem dX6_findsAgain_37 : decode cX6_findsAgain 37 = .ok (.getfield 159, 3) := dk_180 0 159 (dk_at dksX6_findsAgain_1 13 rfl rfl)
theorem dX6_findsAgain_40 : decode cX6_findsAgain 40 = .ok (.iastore, 1) := dk_79 (dk_at dksX6_findsAgain_1 16 rfl rfl)
theorem dX6_findsAgain_41 : decode cX6_findsAgain 41 = .ok (.aload_n 0, 1) := dk_42 (dk_at dksX6_findsAgain_1 17 rfl rfl)
theorem dX6_findsAgain_42 : decode cX6_findsAgain 42 = .ok (.aload_n 0, 1) := dk_42 (dk_at dksX6_findsAgain_1 18 rfl rfl)
theorem dX6_findsAgain_43 : decode cX6_findsAgain 43 = .ok (.getfield 37, 3) := dk_180 0 37 (dk_at dksX6_findsAgain_1 19 rfl rfl)
theorem dX6_findsAgain_46 : decode cX6_findsAgain 46 = .ok (.iload_n 1, 1) := dk_27 (dk_at dksX6_findsAgain_1 22 rfl rfl)
theorem dX6_findsAgain_47 : decode cX6_findsAgain 47 = .ok (.iaload, 1) := dk_46 (dk_at dksX6_findsAgain_1 23 rfl rfl)
theorem dX6_findsAgain_48 : decode cX6_findsAgain 48 = .ok (.iload_n 2, 1) := dk_28 (dk_at dksX6_findsAgain_2 0 rfl rfl)
theorem dX6_findsAgain_49 : decode cX6_findsAgain 49 = .ok (.invokevirtual 210, 3) := dk_182 0 210 (dk_at dksX6_findsAgain_2 1 rfl rfl)
theorem dX6_findsAgain_52 : decode cX6_findsAgain 52 = .ok (.return_, 1) := dk_177 (dk_at dksX6_findsAgain_2 4 rfl rfl)
theorem dX6_findsAgain_53 : decode cX6_findsAgain 53 = .ok (.aload_n 0, 1) := dk_42 (dk_at dksX6_findsAgain_2 5 rfl rfl)
theorem dX6_findsAgain_54 : decode cX6_findsAgain 54 = .ok (.dup, 1) := dk_89 (dk_at dksX6_findsAgain_2 6 rfl rfl)
theorem dX6_findsAgain_55 : decode cX6_findsAgain 55 = .ok (.getfield 156, 3) := dk_180 0 156 (dk_at dksX6_findsAgain_2 7 rfl rfl)
theorem dX6_findsAgain_58 : decode cX6_findsAgain 58 = .ok (.iconst 1, 1) := dk_4 (dk_at dksX6_findsAgain_2 10 rfl rfl)
theorem dX6_findsAgain_59 : decode cX6_findsAgain 59 = .ok (.isub, 1) := dk_100 (dk_at dksX6_findsAgain_2 11 rfl rfl)
theorem dX6_findsAgain_60 : decode cX6_findsAgain 60 = .ok (.putfield 156, 3) := dk_181 0 156 (dk_at dksX6_findsAgain_2 12 rfl rfl)
theorem dX6_findsAgain_63 : decode cX6_findsAgain 63 = .ok (.aload_n 0, 1) := dk_42 (dk_at dksX6_findsAgain_2 15 rfl rfl)
theorem dX6_findsAgain_64 : decode cX6_findsAgain 64 = .ok (.getfield 159, 3) := dk_180 0 159 (dk_at dksX6_findsAgain_2 16 rfl rfl)
theorem dX6_findsAgain_67 : decode cX6_findsAgain 67 = .ok (.aload_n 0, 1) := dk_42 (dk_at dksX6_findsAgain_2 19 rfl rfl)
theorem dX6_findsAgain_68 : decode cX6_findsAgain 68 = .ok (.getfield 82, 3) := dk_180 0 82 (dk_at dksX6_findsAgain_2 20 rfl rfl)
theorem dX6_findsAgain_71 : decode cX6_findsAgain 71 = .ok (.aload_n 0, 1) := dk_42 (dk_at dksX6_findsAgain_2 23 rfl rfl)
theorem dX6_findsAgain_72 : decode cX6_findsAgain 72 = .ok (.getfield 156, 3) := dk_180 0 156 (dk_at dksX6_findsAgain_3 0 rfl rfl)
theorem dX6_findsAgain_75 : decode cX6_findsAgain 75 = .ok (.iaload, 1) := dk_46 (dk_at dksX6_findsAgain_3 3 rfl rfl)
theorem dX6_findsAgain_76 : decode cX6_findsAgain 76 = .ok (.if_icmp .le 14, 3) := dk_164 0 14 (dk_at dksX6_findsAgain_3 4 rfl rfl)
theorem dX6_findsAgain_79 : decode cX6_findsAgain 79 = .ok (.aload_n 0, 1) := dk_42 (dk_at dksX6_findsAgain_3 7 rfl rfl)
theorem dX6_findsAgain_80 : decode cX6_findsAgain 80 = .ok (.dup, 1) := dk_89 (dk_at dksX6_findsAgain_3 8 rfl rfl)
theorem dX6_findsAgain_81 : decode cX6_findsAgain 81 = .ok (.getfield 185, 3) := dk_180 0 185 (dk_at dksX6_findsAgain_3 9 rfl rfl)
theorem dX6_findsAgain_84 : decode cX6_findsAgain 84 = .ok (.iconst 1, 1) := dk_4 (dk_at dksX6_findsAgain_3 12 rfl rfl)
theorem dX6_findsAgain_85 : decode cX6_findsAgain 85 = .ok (.iadd, 1) := dk_96 (dk_at dksX6_findsAgain_3 13 rfl rfl)
theorem dX6_findsAgain_86 : decode cX6_findsAgain 86 = .ok (.putfield 185, 3) := dk_181 0 185 (dk_at dksX6_findsAgain_3 14 rfl rfl)
theorem dX6_findsAgain_89 : decode cX6_findsAgain 89 = .ok (.return_, 1) := dk_177 (dk_at dksX6_findsAgain_3 17 rfl rfl)
theorem dX6_findsAgain_90 : decode cX6_findsAgain 90 = .ok (.iconst 0, 1) := dk_3 (dk_at dksX6_findsAgain_3 18 rfl rfl)
theorem dX6_findsAgain_91 : decode cX6_findsAgain 91 = .ok (.istore_n 3, 1) := dk_62 (dk_at dksX6_findsAgain_3 19 rfl rfl)
theorem dX6_findsAgain_92 : decode cX6_findsAgain 92 = .ok (.iload_n 3, 1) := dk_29 (dk_at dksX6_findsAgain_3 20 rfl rfl)
theorem dX6_findsAgain_93 : decode cX6_findsAgain 93 = .ok (.aload_n 0, 1) := dk_42 (dk_at dksX6_findsAgain_3 21 rfl rfl)
theorem dX6_findsAgain_94 : decode cX6_findsAgain 94 = .ok (.getfield 16, 3) := dk_180 0 16 (dk_at dksX6_findsAgain_4 0 rfl rfl)
theorem dX6_findsAgain_97 : decode cX6_findsAgain 97 = .ok (.iload_n 2, 1) := dk_28 (dk_at dksX6_findsAgain_4 3 rfl rfl)
theorem dX6_findsAgain_98 : decode cX6_findsAgain 98 = .ok (.iaload, 1) := dk_46 (dk_at dksX6_findsAgain_4 4 rfl rfl)
theorem dX6_findsAgain_99 : decode cX6_findsAgain 99 = .ok (.if_icmp .ge 45, 3) := dk_162 0 45 (dk_at dksX6_findsAgain_4 5 rfl rfl)
theorem dX6_findsAgain_102 : decode cX6_findsAgain 102 = .ok (.aload_n 0, 1) := dk_42 (dk_at dksX6_findsAgain_4 8 rfl rfl)
theorem dX6_findsAgain_103 : decode cX6_findsAgain 103 = .ok (.getfield 13, 3) := dk_180 0 13 (dk_at dksX6_findsAgain_4 9 rfl rfl)
theorem dX6_findsAgain_106 : decode cX6_findsAgain 106 = .ok (.iload_n 2, 1) := dk_28 (dk_at dksX6_findsAgain_4 12 rfl rfl)
theorem dX6_findsAgain_107 : decode cX6_findsAgain 107 = .ok (.iaload, 1) := dk_46 (dk_at dksX6_findsAgain_4 13 rfl rfl)
theorem dX6_findsAgain_108 : decode cX6_findsAgain 108 = .ok (.iconst 3, 1) := dk_6 (dk_at dksX6_findsAgain_4 14 rfl rfl)
theorem dX6_findsAgain_109 : decode cX6_findsAgain 109 = .ok (.if_icmp .ne 35, 3) := dk_160 0 35 (dk_at dksX6_findsAgain_4 15 rfl rfl)
theorem dX6_findsAgain_112 : decode cX6_findsAgain 112 = .ok (.aload_n 0, 1) := dk_42 (dk_at dksX6_findsAgain_4 18 rfl rfl)
theorem dX6_findsAgain_113 : decode cX6_findsAgain 113 = .ok (.iload_n 2, 1) := dk_28 (dk_at dksX6_findsAgain_4 19 rfl rfl)
theorem dX6_findsAgain_114 : decode cX6_findsAgain 114 = .ok (.iload_n 3, 1) := dk_29 (dk_at dksX6_findsAgain_4 20 rfl rfl)
theorem dX6_findsAgain_115 : decode cX6_findsAgain 115 = .ok (.invokevirtual 216, 3) := dk_182 0 216 (dk_at dksX6_findsAgain_4 21 rfl rfl)
theorem dX6_findsAgain_118 : decode cX6_findsAgain 118 = .ok (.ifCond .eq 20, 3) := dk_153 0 20 (dk_at dksX6_findsAgain_5 0 rfl rfl)
theorem dX6_findsAgain_121 : decode cX6_findsAgain 121 = .ok (.aload_n 0, 1) := dk_42 (dk_at dksX6_findsAgain_5 3 rfl rfl)
theorem dX6_findsAgain_122 : decode cX6_findsAgain 122 = .ok (.aload_n 0, 1) := dk_42 (dk_at dksX6_findsAgain_5 4 rfl rfl)
theorem dX6_findsAgain_123 : decode cX6_findsAgain 123 = .ok (.getfield 25, 3) := dk_180 0 25 (dk_at dksX6_findsAgain_5 5 rfl rfl)
theorem dX6_findsAgain_126 : decode cX6_findsAgain 126 = .ok (.aload_n 0, 1) := dk_42 (dk_at dksX6_findsAgain_5 8 rfl rfl)
theorem dX6_findsAgain_127 : decode cX6_findsAgain 127 = .ok (.iload_n 2, 1) := dk_28 (dk_at dksX6_findsAgain_5 9 rfl rfl)
theorem dX6_findsAgain_128 : decode cX6_findsAgain 128 = .ok (.iload_n 3, 1) := dk_29 (dk_at dksX6_findsAgain_5 10 rfl rfl)
theorem dX6_findsAgain_129 : decode cX6_findsAgain 129 = .ok (.invokevirtual 138, 3) := dk_182 0 138 (dk_at dksX6_findsAgain_5 11 rfl rfl)
theorem dX6_findsAgain_132 : decode cX6_findsAgain 132 = .ok (.iaload, 1) := dk_46 (dk_at dksX6_findsAgain_5 14 rfl rfl)
theorem dX6_findsAgain_133 : decode cX6_findsAgain 133 = .ok (.bipush 12, 2) := dk_16 12 (dk_at dksX6_findsAgain_5 15 rfl rfl)
theorem dX6_findsAgain_135 : decode cX6_findsAgain 135 = .ok (.invokevirtual 162, 3) := dk_182 0 162 (dk_at dksX6_findsAgain_5 17 rfl rfl)
theorem dX6_findsAgain_138 : decode cX6_findsAgain 138 = .ok (.iinc 3 1, 3) := dk_132 3 1 (dk_at dksX6_findsAgain_5 20 rfl rfl)
theorem dX6_findsAgain_141 : decode cX6_findsAgain 141 = .ok (.goto (-49), 3) := dk_167 255 207 (dk_at dksX6_findsAgain_6 0 rfl rfl)
theorem dX6_findsAgain_144 : decode cX6_findsAgain 144 = .ok (.return_, 1) := dk_177 (dk_at dksX6_findsAgain_6 3 rfl rfl)
abbrev cX6_isAgain : ByteArray := prog_25_method_34_code
def yX6_isAgain : MethodName := ⟨RX6, "isAgain", "(II)Z"⟩
def dkwX6_isAgain_1 : List UInt8 := [153, 0, 5, 4, 172, 132, 3, 1, 167, 255, 227, 3, 172]
abbrev dktX6_isAgain_1 : List UInt8 := dkwX6_isAgain_1 ++ []
def dkwX6_isAgain_0 : List UInt8 := [3, 62, 29, 28, 162, 0, 30, 42, 42, 27, 29, 182, 0, 138, 42, 27, 28, 182, 0, 138, 182, 0, 191]
abbrev dktX6_isAgain_0 : List UInt8 := dkwX6_isAgain_0 ++ dktX6_isAgain_1
theorem dksX6_isAgain_0 : cX6_isAgain.data.toList.drop 0 = dktX6_isAgain_0 := by decide +kernel
theorem dksX6_isAgain_1 : cX6_isAgain.data.toList.drop 23 = dktX6_isAgain_1 := dk_seg dksX6_isAgain_0 23 rfl rfl
theorem dX6_isAgain_0 : decode cX6_isAgain 0 = .ok (.iconst 0, 1) := dk_3 (dk_at dksX6_isAgain_0 0 rfl rfl)
theorem dX6_isAgain_1 : decode cX6_isAgain 1 = .ok (.istore_n 3, 1) := dk_62 (dk_at dksX6_isAgain_0 1 rfl rfl)
theorem dX6_isAgain_2 : decode cX6_isAgain 2 = .ok (.iload_n 3, 1) := dk_29 (dk_at dksX6_isAgain_0 2 rfl rfl)
theorem dX6_isAgain_3 : decode cX6_isAgain 3 = .ok (.iload_n 2, 1) := dk_28 (dk_at dksX6_isAgain_0 3 rfl rfl)
theorem dX6_isAgain_4 : decode cX6_isAgain 4 = .ok (.if_icmp .ge 30, 3) := dk_162 0 30 (dk_at dksX6_isAgain_0 4 rfl rfl)
theorem dX6_isAgain_7 : decode cX6_isAgain 7 = .ok (.aload_n 0, 1) := dk_42 (dk_at dksX6_isAgain_0 7 rfl rfl)
theorem dX6_isAgain_8 : decode cX6_isAgain 8 = .ok (.aload_n 0, 1) := dk_42 (dk_at dksX6_isAgain_0 8 rfl rfl)
theorem dX6_isAgain_9 : decode cX6_isAgain 9 = .ok (.iload_n 1, 1) := dk_27 (dk_at dksX6_isAgain_0 9 rfl rfl)
theorem dX6_isAgain_10 : decode cX6_isAgain 10 = .ok (.iload_n 3, 1) := dk_29 (dk_at dksX6_isAgain_0 10 rfl rfl)
theorem dX6_isAgain_11 : decode cX6_isAgain 11 = .ok (.invokevirtual 138, 3) := dk_182 0 138 (dk_at dksX6_isAgain_0 11 rfl rfl)
theorem dX6_isAgain_14 : decode cX6_isAgain 14 = .ok (.aload_n 0, 1) := dk_42 (dk_at dksX6_isAgain_0 14 rfl rfl)
theorem dX6_isAgain_15 : decode cX6_isAgain 15 = .ok (.iload_n 1, 1) := dk_27 (dk_at dksX6_isAgain_0 15 rfl rfl)
theorem dX6_isAgain_16 : decode cX6_isAgain 16 = .ok (.iload_n 2, 1) := dk_28 (dk_at dksX6_isAgain_0 16 rfl rfl)
theorem dX6_isAgain_17 : decode cX6_isAgain 17 = .ok (.invokevirtual 138, 3) := dk_182 0 138 (dk_at dksX6_isAgain_0 17 rfl rfl)
theorem dX6_isAgain_20 : decode cX6_isAgain 20 = .ok (.invokevirtual 191, 3) := dk_182 0 191 (dk_at dksX6_isAgain_0 20 rfl rfl)
theorem dX6_isAgain_23 : decode cX6_isAgain 23 = .ok (.ifCond .eq 5, 3) := dk_153 0 5 (dk_at dksX6_isAgain_1 0 rfl rfl)
theorem dX6_isAgain_26 : decode cX6_isAgain 26 = .ok (.iconst 1, 1) := dk_4 (dk_at dksX6_isAgain_1 3 rfl rfl)
theorem dX6_isAgain_27 : decode cX6_isAgain 27 = .ok (.ireturn, 1) := dk_172 (dk_at dksX6_isAgain_1 4 rfl rfl)
theorem dX6_isAgain_28 : decode cX6_isAgain 28 = .ok (.iinc 3 1, 3) := dk_132 3 1 (dk_at dksX6_isAgain_1 5 rfl rfl)
theorem dX6_isAgain_31 : decode cX6_isAgain 31 = .ok (.goto (-29), 3) := dk_167 255 227 (dk_at dksX6_isAgain_1 8 rfl rfl)
theorem dX6_isAgain_34 : decode cX6_isAgain 34 = .ok (.iconst 0, 1) := dk_3 (dk_at dksX6_isAgain_1 11 rfl rfl)
theorem dX6_isAgain_35 : decode cX6_isAgain 35 = .ok (.ireturn, 1) := dk_172 (dk_at dksX6_isAgain_1 12 rfl rfl)
abbrev cX6_findsEither : ByteArray := prog_25_method_38_code
def yX6_findsEither : MethodName := ⟨RX6, "findsEither", "(II)V"⟩
def dkwX6_findsEither_6 : List UInt8 := [42, 180, 0, 185, 79, 42, 42, 180, 0, 40, 27, 46, 28, 182, 0, 210, 167, 0, 7, 42, 182, 0, 222, 177]
abbrev dktX6_findsEither_6 : List UInt8 := dkwX6_findsEither_6 ++ []
def dkwX6_findsEither_5 : List UInt8 := [180, 0, 88, 42, 180, 0, 156, 4, 100, 42, 180, 0, 159, 79, 42, 180, 0, 91, 42, 180, 0, 156, 4, 100]
abbrev dktX6_findsEither_5 : List UInt8 := dkwX6_findsEither_5 ++ dktX6_findsEither_6
def dkwX6_findsEither_4 : List UInt8 := [100, 46, 160, 0, 16, 42, 89, 180, 0, 156, 4, 100, 181, 0, 156, 167, 0, 56, 29, 4, 160, 0, 47, 42]
abbrev dktX6_findsEither_4 : List UInt8 := dkwX6_findsEither_4 ++ dktX6_findsEither_5
def dkwX6_findsEither_3 : List UInt8 := [182, 0, 210, 167, 0, 92, 29, 4, 160, 0, 34, 42, 180, 0, 159, 42, 180, 0, 82, 42, 180, 0, 156, 4]
abbrev dktX6_findsEither_3 : List UInt8 := dkwX6_findsEither_3 ++ dktX6_findsEither_4
def dkwX6_findsEither_2 : List UInt8 := [180, 0, 85, 42, 180, 0, 156, 4, 100, 42, 180, 0, 185, 79, 42, 42, 180, 0, 37, 27, 46, 28]
abbrev dktX6_findsEither_2 : List UInt8 := dkwX6_findsEither_2 ++ dktX6_findsEither_3
def dkwX6_findsEither_1 : List UInt8 := [4, 96, 79, 29, 154, 0, 47, 42, 180, 0, 82, 42, 180, 0, 156, 4, 100, 42, 180, 0, 159, 79, 42]
abbrev dktX6_findsEither_1 : List UInt8 := dkwX6_findsEither_1 ++ dktX6_findsEither_2
def dkwX6_findsEither_0 : List UInt8 := [42, 180, 0, 79, 42, 180, 0, 156, 4, 100, 46, 62, 42, 180, 0, 79, 42, 180, 0, 156, 4, 100, 92, 46]
abbrev dktX6_findsEither_0 : List UInt8 := dkwX6_findsEither_0 ++ dktX6_findsEither_1
theorem dksX6_findsEither_0 : cX6_findsEither.data.toList.drop 0 = dktX6_findsEither_0 := by decide +kernel
theorem dksX6_findsEither_1 : cX6_findsEither.data.toList.drop 24 = dktX6_findsEither_1 := dk_seg dksX6_findsEither_0 24 rfl rfl
theorem dksX6_findsEither_2 : cX6_findsEither.data.toList.drop 47 = dktX6_findsEither_2 := dk_seg dksX6_findsEither_1 23 rfl rfl
theorem dksX6_findsEither_3 : cX6_findsEither.data.toList.drop 69 = dktX6_findsEither_3 := dk_seg dksX6_findsEither_2 22 rfl rfl
theorem dksX6_findsEither_4 : cX6_findsEither.data.toList.drop 93 = dktX6_findsEither_4 := dk_seg dksX6_findsEither_3 24 rfl rfl
theorem dksX6_findsEither_5 : cX6_findsEither.data.toList.drop 117 = dktX6_findsEither_5 := dk_seg dksX6_findsEither_4 24 rfl rfl
theorem dksX6_findsEither_6 : cX6_findsEither.data.toList.drop 141 = dktX6_findsEither_6 := dk_seg dksX6_findsEither_5 24 rfl rfl
theorem dX6_findsEither_0 : decode cX6_findsEither 0 = .ok (.aload_n 0, 1) := dk_42 (dk_at dksX6_findsEither_0 0 rfl rfl)
theorem dX6_findsEither_1 : decode cX6_findsEither 1 = .ok (.getfield 79, 3) := dk_180 0 79 (dk_at dksX6_findsEither_0 1 rfl rfl)
theorem dX6_findsEither_4 : decode cX6_findsEither 4 = .ok (.aload_n 0, 1) := dk_42 (dk_at dksX6_findsEither_0 4 rfl rfl)
theorem dX6_findsEither_5 : decode cX6_findsEither 5 = .ok (.getfield 156, 3) := dk_180 0 156 (dk_at dksX6_findsEither_0 5 rfl rfl)
theorem dX6_findsEither_8 : decode cX6_findsEither 8 = .ok (.iconst 1, 1) := dk_4 (dk_at dksX6_findsEither_0 8 rfl rfl)
theorem dX6_findsEither_9 : decode cX6_findsEither 9 = .ok (.isub, 1) := dk_100 (dk_at dksX6_findsEither_0 9 rfl rfl)
theorem dX6_findsEither_10 : decode cX6_findsEither 10 = .ok (.iaload, 1) := dk_46 (dk_at dksX6_findsEither_0 10 rfl rfl)
theorem dX6_findsEither_11 : decode cX6_findsEither 11 = .ok (.istore_n 3, 1) := dk_62 (dk_at dksX6_findsEither_0 11 rfl rfl)
theorem dX6_findsEither_12 : decode cX6_findsEither 12 = .ok (.aload_n 0, 1) := dk_42 (dk_at dksX6_findsEither_0 12 rfl rfl)
theorem dX6_findsEither_13 : decode cX6_findsEither 13 = .ok (.getfield 79, 3) := dk_180 0 79 (dk_at dksX6_findsEither_0 13 rfl rfl)
theorem dX6_findsEither_16 : decode cX6_findsEither 16 = .ok (.aload_n 0, 1) := dk_42 (dk_at dksX6_findsEither_0 16 rfl rfl)
theorem dX6_findsEither_17 : decode cX6_findsEither 17 = .ok (.getfield 156, 3) := dk_180 0 156 (dk_at dksX6_findsEither_0 17 rfl rfl)
theorem dX6_findsEither_20 : decode cX6_findsEither 20 = .ok (.iconst 1, 1) := dk_4 (dk_at dksX6_findsEither_0 20 rfl rfl)
theorem dX6_findsEither_21 : decode cX6_findsEither 21 = .ok (.isub, 1) := dk_100 (dk_at dksX6_findsEither_0 21 rfl rfl)
theorem dX6_findsEither_22 : decode cX6_findsEither 22 = .ok (.dup2, 1) := dk_92 (dk_at dksX6_findsEither_0 22 rfl rfl)
theorem dX6_findsEither_23 : decode cX6_findsEither 23 = .ok (.iaload, 1) := dk_46 (dk_at dksX6_findsEither_0 23 rfl rfl)
theorem dX6_findsEither_24 : decode cX6_findsEither 24 = .ok (.iconst 1, 1) := dk_4 (dk_at dksX6_findsEither_1 0 rfl rfl)
theorem dX6_findsEither_25 : decode cX6_findsEither 25 = .ok (.iadd, 1) := dk_96 (dk_at dksX6_findsEither_1 1 rfl rfl)
theorem dX6_findsEither_26 : decode cX6_findsEither 26 = .ok (.iastore, 1) := dk_79 (dk_at dksX6_findsEither_1 2 rfl rfl)
theorem dX6_findsEither_27 : decode cX6_findsEither 27 = .ok (.iload_n 3, 1) := dk_29 (dk_at dksX6_findsEither_1 3 rfl rfl)
theorem dX6_findsEither_28 : decode cX6_findsEither 28 = .ok (.ifCond .ne 47, 3) := dk_154 0 47 (dk_at dksX6_findsEither_1 4 rfl rfl)
theorem dX6_findsEither_31 : decode cX6_findsEither 31 = .ok (.aload_n 0, 1) := dk_42 (dk_at dksX6_findsEither_1 7 rfl rfl)
theorem dX6_findsEither_32 : decode cX6_findsEither 32 = .ok (.getfield 82, 3) := dk_180 0 82 (dk_at dksX6_findsEither_1 8 rfl rfl)
theorem dX6_findsEither_35 : decode cX6_findsEither 35 = .ok (.aload_n 0, 1) := dk_42 (dk_at dksX6_findsEither_1 11 rfl rfl)
theorem dX6_findsEither_36 : decode cX6_findsEither 36 = .ok (.getfield 156, 3) := dk_180 0 156 (dk_at dksX6_findsEither_1 12 rfl rfl)
theorem dX6_findsEither_39 : decode cX6_findsEither 39 = .ok (.iconst 1, 1) := dk_4 (dk_at dksX6_findsEither_1 15 rfl rfl)
theorem dX6_findsEither_40 : decode cX6_findsEither 40 = .ok (.isub, 1) := dk_100 (dk_at dksX6_findsEither_1 16 rfl rfl)
theorem dX6_findsEither_41 : decode cX6_findsEither 41 = .ok (.aload_n 0, 1) := dk_42 (dk_at dksX6_findsEither_1 17 rfl rfl)
theorem dX6_findsEither_42 : decode cX6_findsEither 42 = .ok (.getfield 159, 3) := dk_180 0 159 (dk_at dksX6_findsEither_1 18 rfl rfl)
theorem dX6_findsEither_45 : decode cX6_findsEither 45 = .ok (.iastore, 1) := dk_79 (dk_at dksX6_findsEither_1 21 rfl rfl)
theorem dX6_findsEither_46 : decode cX6_findsEither 46 = .ok (.aload_n 0, 1) := dk_42 (dk_at dksX6_findsEither_1 22 rfl rfl)
theorem dX6_findsEither_47 : decode cX6_findsEither 47 = .ok (.getfield 85, 3) := dk_180 0 85 (dk_at dksX6_findsEither_2 0 rfl rfl)
theorem dX6_findsEither_50 : decode cX6_findsEither 50 = .ok (.aload_n 0, 1) := dk_42 (dk_at dksX6_findsEither_2 3 rfl rfl)
theorem dX6_findsEither_51 : decode cX6_findsEither 51 = .ok (.getfield 156, 3) := dk_180 0 156 (dk_at dksX6_findsEither_2 4 rfl rfl)
theorem dX6_findsEither_54 : decode cX6_findsEither 54 = .ok (.iconst 1, 1) := dk_4 (dk_at dksX6_findsEither_2 7 rfl rfl)
theorem dX6_findsEither_55 : decode cX6_findsEither 55 = .ok (.isub, 1) := dk_100 (dk_at dksX6_findsEither_2 8 rfl rfl)
theorem dX6_findsEither_56 : decode cX6_findsEither 56 = .ok (.aload_n 0, 1) := dk_42 (dk_at dksX6_findsEither_2 9 rfl rfl)
theorem dX6_findsEither_57 : decode cX6_findsEither 57 = .ok (.getfield 185, 3) := dk_180 0 185 (dk_at dksX6_findsEither_2 10 rfl rfl)
theorem dX6_findsEither_60 : decode cX6_findsEither 60 = .ok (.iastore, 1) := dk_79 (dk_at dksX6_findsEither_2 13 rfl rfl)
theorem dX6_findsEither_61 : decode cX6_findsEither 61 = .ok (.aload_n 0, 1) := dk_42 (dk_at dksX6_findsEither_2 14 rfl rfl)
theorem dX6_findsEither_62 : decode cX6_findsEither 62 = .ok (.aload_n 0, 1) := dk_42 (dk_at dksX6_findsEither_2 15 rfl rfl)
theorem dX6_findsEither_63 : decode cX6_findsEither 63 = .ok (.getfield 37, 3) := dk_180 0 37 (dk_at dksX6_findsEither_2 16 rfl rfl)
theorem dX6_findsEither_66 : decode cX6_findsEither 66 = .ok (.iload_n 1, 1) := dk_27 (dk_at dksX6_findsEither_2 19 rfl rfl)
theorem dX6_findsEither_67 : decode cX6_findsEither 67 = .ok (.iaload, 1) := dk_46 (dk_at dksX6_findsEither_2 20 rfl rfl)
theorem dX6_findsEither_68 : decode cX6_findsEither 68 = .ok (.iload_n 2, 1) := dk_28 (dk_at dksX6_findsEither_2 21 rfl rfl)
theorem dX6_findsEither_69 : decode cX6_findsEither 69 = .ok (.invokevirtual 210, 3) := dk_182 0 210 (dk_at dksX6_findsEither_3 0 rfl rfl)
theorem dX6_findsEither_72 : decode cX6_findsEither 72 = .ok (.goto 92, 3) := dk_167 0 92 (dk_at dksX6_findsEither_3 3 rfl rfl)
theorem dX6_findsEither_75 : decode cX6_findsEither 75 = .ok (.iload_n 3, 1) := dk_29 (dk_at dksX6_findsEither_3 6 rfl rfl)
theorem dX6_findsEither_76 : decode cX6_findsEither 76 = .ok (.iconst 1, 1) := dk_4 (dk_at dksX6_findsEither_3 7 rfl rfl)
theorem dX6_findsEither_77 : decode cX6_findsEither 77 = .ok (.if_icmp .ne 34, 3) := dk_160 0 34 (dk_at dksX6_findsEither_3 8 rfl rfl)
theorem dX6_findsEither_80 : decode cX6_findsEither 80 = .ok (.aload_n 0, 1) := dk_42 (dk_at dksX6_findsEither_3 11 rfl rfl)
theorem dX6_findsEither_81 : decode cX6_findsEither 81 = .ok (.getfield 159, 3) := dk_180 0 159 (dk_at dksX6_findsEither_3 12 rfl rfl)
theorem dX6_findsEither_84 : decode cX6_findsEither 84 = .ok (.aload_n 0, 1) := dk_42 (dk_at dksX6_findsEither_3 15 rfl rfl)
theorem dX6_findsEither_85 : decode cX6_findsEither 85 = .ok (.getfield 82, 3) := dk_180 0 82 (dk_at dksX6_findsEither_3 16 rfl rfl)
theorem dX6_findsEither_88 : decode cX6_findsEither 88 = .ok (.aload_n 0, 1) := dk_42 (dk_at dksX6_findsEither_3 19 rfl rfl)
theorem dX6_findsEither_89 : decode cX6_findsEither 89 = .ok (.getfield 156, 3) := dk_180 0 156 (dk_at dksX6_findsEither_3 20 rfl rfl)
theorem dX6_findsEither_92 : decode cX6_findsEither 92 = .ok (.iconst 1, 1) := dk_4 (dk_at dksX6_findsEither_3 23 rfl rfl)
theorem dX6_findsEither_93 : decode cX6_findsEither 93 = .ok (.isub, 1) := dk_100 (dk_at dksX6_findsEither_4 0 rfl rfl)
theorem dX6_findsEither_94 : decode cX6_findsEither 94 = .ok (.iaload, 1) := dk_46 (dk_at dksX6_findsEither_4 1 rfl rfl)
theorem dX6_findsEither_95 : decode cX6_findsEither 95 = .ok (.if_icmp .ne 16, 3) := dk_160 0 16 (dk_at dksX6_findsEither_4 2 rfl rfl)
theorem dX6_findsEither_98 : decode cX6_findsEither 98 = .ok (.aload_n 0, 1) := dk_42 (dk_at dksX6_findsEither_4 5 rfl rfl)
theorem dX6_findsEither_99 : decode cX6_findsEither 99 = .ok (.dup, 1) := dk_89 (dk_at dksX6_findsEither_4 6 rfl rfl)
theorem dX6_findsEither_100 : decode cX6_findsEither 100 = .ok (.getfield 156, 3) := dk_180 0 156 (dk_at dksX6_findsEither_4 7 rfl rfl)
theorem dX6_findsEither_103 : decode cX6_findsEither 103 = .ok (.iconst 1, 1) := dk_4 (dk_at dksX6_findsEither_4 10 rfl rfl)
theorem dX6_findsEither_104 : decode cX6_findsEither 104 = .ok (.isub, 1) := dk_100 (dk_at dksX6_findsEither_4 11 rfl rfl)
theorem dX6_findsEither_105 : decode cX6_findsEither 105 = .ok (.putfield 156, 3) := dk_181 0 156 (dk_at dksX6_findsEither_4 12 rfl rfl)
theorem dX6_findsEither_108 : decode cX6_findsEither 108 = .ok (.goto 56, 3) := dk_167 0 56 (dk_at dksX6_findsEither_4 15 rfl rfl)
theorem dX6_findsEither_111 : decode cX6_findsEither 111 = .ok (.iload_n 3, 1) := dk_29 (dk_at dksX6_findsEither_4 18 rfl rfl)
theorem dX6_findsEither_112 : decode cX6_findsEither 112 = .ok (.iconst 1, 1) := dk_4 (dk_at dksX6_findsEither_4 19 rfl rfl)
theorem dX6_findsEither_113 : decode cX6_findsEither 113 = .ok (.if_icmp .ne 47, 3) := dk_160 0 47 (dk_at dksX6_findsEither_4 20 rfl rfl)
theorem dX6_findsEither_116 : decode cX6_findsEither 116 = .ok (.aload_n 0, 1) := dk_42 (dk_at dksX6_findsEither_4 23 rfl rfl)
theorem dX6_findsEither_117 : decode cX6_findsEither 117 = .ok (.getfield 88, 3) := dk_180 0 88 (dk_at dksX6_findsEither_5 0 rfl rfl)
theorem dX6_findsEither_120 : decode cX6_findsEither 120 = .ok (.aload_n 0, 1) := dk_42 (dk_at dksX6_findsEither_5 3 rfl rfl)
theorem dX6_findsEither_121 : decode cX6_findsEither 121 = .ok (.getfield 156, 3) := dk_180 0 156 (dk_at dksX6_findsEither_5 4 rfl rfl)
theorem dX6_findsEither_124 : decode cX6_findsEither 124 = .ok (.iconst 1, 1) := dk_4 (dk_at dksX6_findsEither_5 7 rfl rfl)
theorem dX6_findsEither_125 : decode cX6_findsEither 125 = .ok (.isub, 1) := dk_100 (dk_at dksX6_findsEither_5 8 rfl rfl)
theorem dX6_findsEither_126 : decode cX6_findsEither 126 = .ok (.aload_n 0, 1) := dk_42 (dk_at dksX6_findsEither_5 9 rfl rfl)
theorem dX6_findsEither_127 : decode cX6_findsEither 127 = .ok (.getfield 159, 3) := dk_180 0 159 (dk_at dksX6_findsEither_5 10 rfl rfl)
theorem dX6_findsEither_130 : decode cX6_findsEither 130 = .ok (.iastore, 1) := dk_79 (dk_at dksX6_findsEither_5 13 rfl rfl)
theorem dX6_findsEither_131 : decode cX6_findsEither 131 = .ok (.aload_n 0, 1) := dk_42 (dk_at dksX6_findsEither_5 14 rfl rfl)
theorem dX6_findsEither_132 : decode cX6_findsEither 132 = .ok (.getfield 91, 3) := dk_180 0 91 (dk_at dksX6_findsEither_5 15 rfl rfl)
theorem dX6_findsEither_135 : decode cX6_findsEither 135 = .ok (.aload_n 0, 1) := dk_42 (dk_at dksX6_findsEither_5 18 rfl rfl)
theorem dX6_findsEither_136 : decode cX6_findsEither 136 = .ok (.getfield 156, 3) := dk_180 0 156 (dk_at dksX6_findsEither_5 19 rfl rfl)
theorem dX6_findsEither_139 : decode cX6_findsEither 139 = .ok (.iconst 1, 1) := dk_4 (dk_at dksX6_findsEither_5 22 rfl rfl)
theorem dX6_findsEither_140 : decode cX6_findsEither 140 = .ok (.isub, 1) := dk_100 (dk_at dksX6_findsEither_5 23 rfl rfl)
theorem dX6_findsEither_141 : decode cX6_findsEither 141 = .ok (.aload_n 0, 1) := dk_42 (dk_at dksX6_findsEither_6 0 rfl rfl)
theorem dX6_findsEither_142 : decode cX6_findsEither 142 = .ok (.getfield 185, 3) := dk_180 0 185 (dk_at dksX6_findsEither_6 1 rfl rfl)
theorem dX6_findsEither_145 : decode cX6_findsEither 145 = .ok (.iastore, 1) := dk_79 (dk_at dksX6_findsEither_6 4 rfl rfl)
theorem dX6_findsEither_146 : decode cX6_findsEither 146 = .ok (.aload_n 0, 1) := dk_42 (dk_at dksX6_findsEither_6 5 rfl rfl)
theorem dX6_findsEither_147 : decode cX6_findsEither 147 = .ok (.aload_n 0, 1) := dk_42 (dk_at dksX6_findsEither_6 6 rfl rfl)
theorem dX6_findsEither_148 : decode cX6_findsEither 148 = .ok (.getfield 40, 3) := dk_180 0 40 (dk_at dksX6_findsEither_6 7 rfl rfl)
theorem dX6_findsEither_151 : decode cX6_findsEither 151 = .ok (.iload_n 1, 1) := dk_27 (dk_at dksX6_findsEither_6 10 rfl rfl)
theorem dX6_findsEither_152 : decode cX6_findsEither 152 = .ok (.iaload, 1) := dk_46 (dk_at dksX6_findsEither_6 11 rfl rfl)
theorem dX6_findsEither_153 : decode cX6_findsEither 153 = .ok (.iload_n 2, 1) := dk_28 (dk_at dksX6_findsEither_6 12 rfl rfl)
theorem dX6_findsEither_154 : decode cX6_findsEither 154 = .ok (.invokevirtual 210, 3) := dk_182 0 210 (dk_at dksX6_findsEither_6 13 rfl rfl)
theorem dX6_findsEither_157 : decode cX6_findsEither 157 = .ok (.goto 7, 3) := dk_167 0 7 (dk_at dksX6_findsEither_6 16 rfl rfl)
theorem dX6_findsEither_160 : decode cX6_findsEither 160 = .ok (.aload_n 0, 1) := dk_42 (dk_at dksX6_findsEither_6 19 rfl rfl)
theorem dX6_findsEither_161 : decode cX6_findsEither 161 = .ok (.invokevirtual 222, 3) := dk_182 0 222 (dk_at dksX6_findsEither_6 20 rfl rfl)
theorem dX6_findsEither_164 : decode cX6_findsEither 164 = .ok (.return_, 1) := dk_177 (dk_at dksX6_findsEither_6 23 rfl rfl)
abbrev cX6_endsEither : ByteArray := prog_25_method_37_code
def yX6_endsEither : MethodName := ⟨RX6, "endsEither", "()V"⟩
def dkwX6_endsEither_4 : List UInt8 := [181, 0, 185, 177]
abbrev dktX6_endsEither_4 : List UInt8 := dkwX6_endsEither_4 ++ []
def dkwX6_endsEither_3 : List UInt8 := [100, 181, 0, 185, 167, 0, 21, 42, 28, 181, 0, 159, 42, 42, 180, 0, 91, 42, 180, 0, 156, 46]
abbrev dktX6_endsEither_3 : List UInt8 := dkwX6_endsEither_3 ++ dktX6_endsEither_4
def dkwX6_endsEither_2 : List UInt8 := [42, 42, 180, 0, 85, 42, 180, 0, 156, 46, 42, 180, 0, 185, 96, 42, 180, 0, 91, 42, 180, 0, 156, 46]
abbrev dktX6_endsEither_2 : List UInt8 := dkwX6_endsEither_2 ++ dktX6_endsEither_3
def dkwX6_endsEither_1 : List UInt8 := [42, 180, 0, 156, 46, 61, 42, 180, 0, 159, 28, 100, 28, 27, 100, 162, 0, 40, 42, 27, 28, 182, 0, 219]
abbrev dktX6_endsEither_1 : List UInt8 := dkwX6_endsEither_1 ++ dktX6_endsEither_2
def dkwX6_endsEither_0 : List UInt8 := [42, 89, 180, 0, 156, 4, 100, 181, 0, 156, 42, 180, 0, 82, 42, 180, 0, 156, 46, 60, 42, 180, 0, 88]
abbrev dktX6_endsEither_0 : List UInt8 := dkwX6_endsEither_0 ++ dktX6_endsEither_1
theorem dksX6_endsEither_0 : cX6_endsEither.data.toList.drop 0 = dktX6_endsEither_0 := by decide +kernel
theorem dksX6_endsEither_1 : cX6_endsEither.data.toList.drop 24 = dktX6_endsEither_1 := dk_seg dksX6_endsEither_0 24 rfl rfl
theorem dksX6_endsEither_2 : cX6_endsEither.data.toList.drop 48 = dktX6_endsEither_2 := dk_seg dksX6_endsEither_1 24 rfl rfl
theorem dksX6_endsEither_3 : cX6_endsEither.data.toList.drop 72 = dktX6_endsEither_3 := dk_seg dksX6_endsEither_2 24 rfl rfl
theorem dksX6_endsEither_4 : cX6_endsEither.data.toList.drop 94 = dktX6_endsEither_4 := dk_seg dksX6_endsEither_3 22 rfl rfl
theorem dX6_endsEither_0 : decode cX6_endsEither 0 = .ok (.aload_n 0, 1) := dk_42 (dk_at dksX6_endsEither_0 0 rfl rfl)
theorem dX6_endsEither_1 : decode cX6_endsEither 1 = .ok (.dup, 1) := dk_89 (dk_at dksX6_endsEither_0 1 rfl rfl)
theorem dX6_endsEither_2 : decode cX6_endsEither 2 = .ok (.getfield 156, 3) := dk_180 0 156 (dk_at dksX6_endsEither_0 2 rfl rfl)
theorem dX6_endsEither_5 : decode cX6_endsEither 5 = .ok (.iconst 1, 1) := dk_4 (dk_at dksX6_endsEither_0 5 rfl rfl)
theorem dX6_endsEither_6 : decode cX6_endsEither 6 = .ok (.isub, 1) := dk_100 (dk_at dksX6_endsEither_0 6 rfl rfl)
theorem dX6_endsEither_7 : decode cX6_endsEither 7 = .ok (.putfield 156, 3) := dk_181 0 156 (dk_at dksX6_endsEither_0 7 rfl rfl)
theorem dX6_endsEither_10 : decode cX6_endsEither 10 = .ok (.aload_n 0, 1) := dk_42 (dk_at dksX6_endsEither_0 10 rfl rfl)
theorem dX6_endsEither_11 : decode cX6_endsEither 11 = .ok (.getfield 82, 3) := dk_180 0 82 (dk_at dksX6_endsEither_0 11 rfl rfl)
theorem dX6_endsEither_14 : decode cX6_endsEither 14 = .ok (.aload_n 0, 1) := dk_42 (dk_at dksX6_endsEither_0 14 rfl rfl)
theorem dX6_endsEither_15 : decode cX6_endsEither 15 = .ok (.getfield 156, 3) := dk_180 0 156 (dk_at dksX6_endsEither_0 15 rfl rfl)
theorem dX6_endsEither_18 : decode cX6_endsEither 18 = .ok (.iaload, 1) := dk_46 (dk_at dksX6_endsEither_0 18 rfl rfl)
theorem dX6_endsEither_19 : decode cX6_endsEither 19 = .ok (.istore_n 1, 1) := dk_60 (dk_at dksX6_endsEither_0 19 rfl rfl)
theorem dX6_endsEither_20 : decode cX6_endsEither 20 = .ok (.aload_n 0, 1) := dk_42 (dk_at dksX6_endsEither_0 20 rfl rfl)
theorem dX6_endsEither_21 : decode cX6_endsEither 21 = .ok (.getfield 88, 3) := dk_180 0 88 (dk_at dksX6_endsEither_0 21 rfl rfl)
theorem dX6_endsEither_24 : decode cX6_endsEither 24 = .ok (.aload_n 0, 1) := dk_42 (dk_at dksX6_endsEither_1 0 rfl rfl)
theorem dX6_endsEither_25 : decode cX6_endsEither 25 = .ok (.getfield 156, 3) := dk_180 0 156 (dk_at dksX6_endsEither_1 1 rfl rfl)
theorem dX6_endsEither_28 : decode cX6_endsEither 28 = .ok (.iaload, 1) := dk_46 (dk_at dksX6_endsEither_1 4 rfl rfl)
theorem dX6_endsEither_29 : decode cX6_endsEither 29 = .ok (.istore_n 2, 1) := dk_61 (dk_at dksX6_endsEither_1 5 rfl rfl)
theorem dX6_endsEither_30 : decode cX6_endsEither 30 = .ok (.aload_n 0, 1) := dk_42 (dk_at dksX6_endsEither_1 6 rfl rfl)
theorem dX6_endsEither_31 : decode cX6_endsEither 31 = .ok (.getfield 159, 3) := dk_180 0 159 (dk_at dksX6_endsEither_1 7 rfl rfl)
theorem dX6_endsEither_34 : decode cX6_endsEither 34 = .ok (.iload_n 2, 1) := dk_28 (dk_at dksX6_endsEither_1 10 rfl rfl)
theorem dX6_endsEither_35 : decode cX6_endsEither 35 = .ok (.isub, 1) := dk_100 (dk_at dksX6_endsEither_1 11 rfl rfl)
theorem dX6_endsEither_36 : decode cX6_endsEither 36 = .ok (.iload_n 2, 1) := dk_28 (dk_at dksX6_endsEither_1 12 rfl rfl)
theorem dX6_endsEither_37 : decode cX6_endsEither 37 = .ok (.iload_n 1, 1) := dk_27 (dk_at dksX6_endsEither_1 13 rfl rfl)
theorem dX6_endsEither_38 : decode cX6_endsEither 38 = .ok (.isub, 1) := dk_100 (dk_at dksX6_endsEither_1 14 rfl rfl)
theorem dX6_endsEither_39 : decode cX6_endsEither 39 = .ok (.if_icmp .ge 40, 3) := dk_162 0 40 (dk_at dksX6_endsEither_1 15 rfl rfl)
theorem dX6_endsEither_42 : decode cX6_endsEither 42 = .ok (.aload_n 0, 1) := dk_42 (dk_at dksX6_endsEither_1 18 rfl rfl)
theorem dX6_endsEither_43 : decode cX6_endsEither 43 = .ok (.iload_n 1, 1) := dk_27 (dk_at dksX6_endsEither_1 19 rfl rfl)
theorem dX6_endsEither_44 : decode cX6_endsEither 44 = .ok (.iload_n 2, 1) := dk_28 (dk_at dksX6_endsEither_1 20 rfl rfl)
theorem dX6_endsEither_45 : decode cX6_endsEither 45 = .ok (.invokevirtual 219, 3) := dk_182 0 219 (dk_at dksX6_endsEither_1 21 rfl rfl)
theorem dX6_endsEither_48 : decode cX6_endsEither 48 = .ok (.aload_n 0, 1) := dk_42 (dk_at dksX6_endsEither_2 0 rfl rfl)
theorem dX6_endsEither_49 : decode cX6_endsEither 49 = .ok (.aload_n 0, 1) := dk_42 (dk_at dksX6_endsEither_2 1 rfl rfl)
theorem dX6_endsEither_50 : decode cX6_endsEither 50 = .ok (.getfield 85, 3) := dk_180 0 85 (dk_at dksX6_endsEither_2 2 rfl rfl)
theorem dX6_endsEither_53 : decode cX6_endsEither 53 = .ok (.aload_n 0, 1) := dk_42 (dk_at dksX6_endsEither_2 5 rfl rfl)
theorem dX6_endsEither_54 : decode cX6_endsEither 54 = .ok (.getfield 156, 3) := dk_180 0 156 (dk_at dksX6_endsEither_2 6 rfl rfl)
theorem dX6_endsEither_57 : decode cX6_endsEither 57 = .ok (.iaload, 1) := dk_46 (dk_at dksX6_endsEither_2 9 rfl rfl)
theorem dX6_endsEither_58 : decode cX6_endsEither 58 = .ok (.aload_n 0, 1) := dk_42 (dk_at dksX6_endsEither_2 10 rfl rfl)
theorem dX6_endsEither_59 : decode cX6_endsEither 59 = .ok (.getfield 185, 3) := dk_180 0 185 (dk_at dksX6_endsEither_2 11 rfl rfl)
theorem dX6_endsEither_62 : decode cX6_endsEither 62 = .ok (.iadd, 1) := dk_96 (dk_at dksX6_endsEither_2 14 rfl rfl)
theorem dX6_endsEither_63 : decode cX6_endsEither 63 = .ok (.aload_n 0, 1) := dk_42 (dk_at dksX6_endsEither_2 15 rfl rfl)
theorem dX6_endsEither_64 : decode cX6_endsEither 64 = .ok (.getfield 91, 3) := dk_180 0 91 (dk_at dksX6_endsEither_2 16 rfl rfl)
theorem dX6_endsEither_67 : decode cX6_endsEither 67 = .ok (.aload_n 0, 1) := dk_42 (dk_at dksX6_endsEither_2 19 rfl rfl)
theorem dX6_endsEither_68 : decode cX6_endsEither 68 = .ok (.getfield 156, 3) := dk_180 0 156 (dk_at dksX6_endsEither_2 20 rfl rfl)
theorem dX6_endsEither_71 : decode cX6_endsEither 71 = .ok (.iaload, 1) := dk_46 (dk_at dksX6_endsEither_2 23 rfl rfl)
theorem dX6_endsEither_72 : decode cX6_endsEither 72 = .ok (.isub, 1) := dk_100 (dk_at dksX6_endsEither_3 0 rfl rfl)
theorem dX6_endsEither_73 : decode cX6_endsEither 73 = .ok (.putfield 185, 3) := dk_181 0 185 (dk_at dksX6_endsEither_3 1 rfl rfl)
theorem dX6_endsEither_76 : decode cX6_endsEither 76 = .ok (.goto 21, 3) := dk_167 0 21 (dk_at dksX6_endsEither_3 4 rfl rfl)
theorem dX6_endsEither_79 : decode cX6_endsEither 79 = .ok (.aload_n 0, 1) := dk_42 (dk_at dksX6_endsEither_3 7 rfl rfl)
theorem dX6_endsEither_80 : decode cX6_endsEither 80 = .ok (.iload_n 2, 1) := dk_28 (dk_at dksX6_endsEither_3 8 rfl rfl)
theorem dX6_endsEither_81 : decode cX6_endsEither 81 = .ok (.putfield 159, 3) := dk_181 0 159 (dk_at dksX6_endsEither_3 9 rfl rfl)
theorem dX6_endsEither_84 : decode cX6_endsEither 84 = .ok (.aload_n 0, 1) := dk_42 (dk_at dksX6_endsEither_3 12 rfl rfl)
theorem dX6_endsEither_85 : decode cX6_endsEither 85 = .ok (.aload_n 0, 1) := dk_42 (dk_at dksX6_endsEither_3 13 rfl rfl)
theorem dX6_endsEither_86 : decode cX6_endsEither 86 = .ok (.getfield 91, 3) := dk_180 0 91 (dk_at dksX6_endsEither_3 14 rfl rfl)
theorem dX6_endsEither_89 : decode cX6_endsEither 89 = .ok (.aload_n 0, 1) := dk_42 (dk_at dksX6_endsEither_3 17 rfl rfl)
theorem dX6_endsEither_90 : decode cX6_endsEither 90 = .ok (.getfield 156, 3) := dk_180 0 156 (dk_at dksX6_endsEither_3 18 rfl rfl)
theorem dX6_endsEither_93 : decode cX6_endsEither 93 = .ok (.iaload, 1) := dk_46 (dk_at dksX6_endsEither_3 21 rfl rfl)
theorem dX6_endsEither_94 : decode cX6_endsEither 94 = .ok (.putfield 185, 3) := dk_181 0 185 (dk_at dksX6_endsEither_4 0 rfl rfl)
theorem dX6_endsEither_97 : decode cX6_endsEither 97 = .ok (.return_, 1) := dk_177 (dk_at dksX6_endsEither_4 3 rfl rfl)
abbrev cX6_takesSecond : ByteArray := prog_25_method_36_code
def yX6_takesSecond : MethodName := ⟨RX6, "takesSecond", "(II)V"⟩
def dkwX6_takesSecond_2 : List UInt8 := [21, 4, 96, 46, 79, 132, 4, 1, 167, 255, 211, 42, 27, 29, 96, 181, 0, 159, 177]
abbrev dktX6_takesSecond_2 : List UInt8 := dkwX6_takesSecond_2 ++ []
def dkwX6_takesSecond_1 : List UInt8 := [42, 180, 0, 67, 28, 21, 4, 96, 46, 79, 42, 180, 0, 70, 27, 21, 4, 96, 42, 180, 0, 70, 28]
abbrev dktX6_takesSecond_1 : List UInt8 := dkwX6_takesSecond_1 ++ dktX6_takesSecond_2
def dkwX6_takesSecond_0 : List UInt8 := [42, 180, 0, 159, 28, 100, 62, 3, 54, 4, 21, 4, 29, 162, 0, 45, 42, 180, 0, 67, 27, 21, 4, 96]
abbrev dktX6_takesSecond_0 : List UInt8 := dkwX6_takesSecond_0 ++ dktX6_takesSecond_1
theorem dksX6_takesSecond_0 : cX6_takesSecond.data.toList.drop 0 = dktX6_takesSecond_0 := by decide +kernel
theorem dksX6_takesSecond_1 : cX6_takesSecond.data.toList.drop 24 = dktX6_takesSecond_1 := dk_seg dksX6_takesSecond_0 24 rfl rfl
theorem dksX6_takesSecond_2 : cX6_takesSecond.data.toList.drop 47 = dktX6_takesSecond_2 := dk_seg dksX6_takesSecond_1 23 rfl rfl
theorem dX6_takesSecond_0 : decode cX6_takesSecond 0 = .ok (.aload_n 0, 1) := dk_42 (dk_at dksX6_takesSecond_0 0 rfl rfl)
theorem dX6_takesSecond_1 : decode cX6_takesSecond 1 = .ok (.getfield 159, 3) := dk_180 0 159 (dk_at dksX6_takesSecond_0 1 rfl rfl)
theorem dX6_takesSecond_4 : decode cX6_takesSecond 4 = .ok (.iload_n 2, 1) := dk_28 (dk_at dksX6_takesSecond_0 4 rfl rfl)
theorem dX6_takesSecond_5 : decode cX6_takesSecond 5 = .ok (.isub, 1) := dk_100 (dk_at dksX6_takesSecond_0 5 rfl rfl)
theorem dX6_takesSecond_6 : decode cX6_takesSecond 6 = .ok (.istore_n 3, 1) := dk_62 (dk_at dksX6_takesSecond_0 6 rfl rfl)
theorem dX6_takesSecond_7 : decode cX6_takesSecond 7 = .ok (.iconst 0, 1) := dk_3 (dk_at dksX6_takesSecond_0 7 rfl rfl)
theorem dX6_takesSecond_8 : decode cX6_takesSecond 8 = .ok (.istore 4, 2) := dk_54 4 (dk_at dksX6_takesSecond_0 8 rfl rfl)
theorem dX6_takesSecond_10 : decode cX6_takesSecond 10 = .ok (.iload 4, 2) := dk_21 4 (dk_at dksX6_takesSecond_0 10 rfl rfl)
theorem dX6_takesSecond_12 : decode cX6_takesSecond 12 = .ok (.iload_n 3, 1) := dk_29 (dk_at dksX6_takesSecond_0 12 rfl rfl)
theorem dX6_takesSecond_13 : decode cX6_takesSecond 13 = .ok (.if_icmp .ge 45, 3) := dk_162 0 45 (dk_at dksX6_takesSecond_0 13 rfl rfl)
theorem dX6_takesSecond_16 : decode cX6_takesSecond 16 = .ok (.aload_n 0, 1) := dk_42 (dk_at dksX6_takesSecond_0 16 rfl rfl)
theorem dX6_takesSecond_17 : decode cX6_takesSecond 17 = .ok (.getfield 67, 3) := dk_180 0 67 (dk_at dksX6_takesSecond_0 17 rfl rfl)
theorem dX6_takesSecond_20 : decode cX6_takesSecond 20 = .ok (.iload_n 1, 1) := dk_27 (dk_at dksX6_takesSecond_0 20 rfl rfl)
theorem dX6_takesSecond_21 : decode cX6_takesSecond 21 = .ok (.iload 4, 2) := dk_21 4 (dk_at dksX6_takesSecond_0 21 rfl rfl)
theorem dX6_takesSecond_23 : decode cX6_takesSecond 23 = .ok (.iadd, 1) := dk_96 (dk_at dksX6_takesSecond_0 23 rfl rfl)
theorem dX6_takesSecond_24 : decode cX6_takesSecond 24 = .ok (.aload_n 0, 1) := dk_42 (dk_at dksX6_takesSecond_1 0 rfl rfl)
theorem dX6_takesSecond_25 : decode cX6_takesSecond 25 = .ok (.getfield 67, 3) := dk_180 0 67 (dk_at dksX6_takesSecond_1 1 rfl rfl)
theorem dX6_takesSecond_28 : decode cX6_takesSecond 28 = .ok (.iload_n 2, 1) := dk_28 (dk_at dksX6_takesSecond_1 4 rfl rfl)
theorem dX6_takesSecond_29 : decode cX6_takesSecond 29 = .ok (.iload 4, 2) := dk_21 4 (dk_at dksX6_takesSecond_1 5 rfl rfl)
theorem dX6_takesSecond_31 : decode cX6_takesSecond 31 = .ok (.iadd, 1) := dk_96 (dk_at dksX6_takesSecond_1 7 rfl rfl)
theorem dX6_takesSecond_32 : decode cX6_takesSecond 32 = .ok (.iaload, 1) := dk_46 (dk_at dksX6_takesSecond_1 8 rfl rfl)
theorem dX6_takesSecond_33 : decode cX6_takesSecond 33 = .ok (.iastore, 1) := dk_79 (dk_at dksX6_takesSecond_1 9 rfl rfl)
theorem dX6_takesSecond_34 : decode cX6_takesSecond 34 = .ok (.aload_n 0, 1) := dk_42 (dk_at dksX6_takesSecond_1 10 rfl rfl)
theorem dX6_takesSecond_35 : decode cX6_takesSecond 35 = .ok (.getfield 70, 3) := dk_180 0 70 (dk_at dksX6_takesSecond_1 11 rfl rfl)
theorem dX6_takesSecond_38 : decode cX6_takesSecond 38 = .ok (.iload_n 1, 1) := dk_27 (dk_at dksX6_takesSecond_1 14 rfl rfl)
theorem dX6_takesSecond_39 : decode cX6_takesSecond 39 = .ok (.iload 4, 2) := dk_21 4 (dk_at dksX6_takesSecond_1 15 rfl rfl)
theorem dX6_takesSecond_41 : decode cX6_takesSecond 41 = .ok (.iadd, 1) := dk_96 (dk_at dksX6_takesSecond_1 17 rfl rfl)
theorem dX6_takesSecond_42 : decode cX6_takesSecond 42 = .ok (.aload_n 0, 1) := dk_42 (dk_at dksX6_takesSecond_1 18 rfl rfl)
theorem dX6_takesSecond_43 : decode cX6_takesSecond 43 = .ok (.getfield 70, 3) := dk_180 0 70 (dk_at dksX6_takesSecond_1 19 rfl rfl)
theorem dX6_takesSecond_46 : decode cX6_takesSecond 46 = .ok (.iload_n 2, 1) := dk_28 (dk_at dksX6_takesSecond_1 22 rfl rfl)
theorem dX6_takesSecond_47 : decode cX6_takesSecond 47 = .ok (.iload 4, 2) := dk_21 4 (dk_at dksX6_takesSecond_2 0 rfl rfl)
theorem dX6_takesSecond_49 : decode cX6_takesSecond 49 = .ok (.iadd, 1) := dk_96 (dk_at dksX6_takesSecond_2 2 rfl rfl)
theorem dX6_takesSecond_50 : decode cX6_takesSecond 50 = .ok (.iaload, 1) := dk_46 (dk_at dksX6_takesSecond_2 3 rfl rfl)
theorem dX6_takesSecond_51 : decode cX6_takesSecond 51 = .ok (.iastore, 1) := dk_79 (dk_at dksX6_takesSecond_2 4 rfl rfl)
theorem dX6_takesSecond_52 : decode cX6_takesSecond 52 = .ok (.iinc 4 1, 3) := dk_132 4 1 (dk_at dksX6_takesSecond_2 5 rfl rfl)
theorem dX6_takesSecond_55 : decode cX6_takesSecond 55 = .ok (.goto (-45), 3) := dk_167 255 211 (dk_at dksX6_takesSecond_2 8 rfl rfl)
theorem dX6_takesSecond_58 : decode cX6_takesSecond 58 = .ok (.aload_n 0, 1) := dk_42 (dk_at dksX6_takesSecond_2 11 rfl rfl)
theorem dX6_takesSecond_59 : decode cX6_takesSecond 59 = .ok (.iload_n 1, 1) := dk_27 (dk_at dksX6_takesSecond_2 12 rfl rfl)
theorem dX6_takesSecond_60 : decode cX6_takesSecond 60 = .ok (.iload_n 3, 1) := dk_29 (dk_at dksX6_takesSecond_2 13 rfl rfl)
theorem dX6_takesSecond_61 : decode cX6_takesSecond 61 = .ok (.iadd, 1) := dk_96 (dk_at dksX6_takesSecond_2 14 rfl rfl)
theorem dX6_takesSecond_62 : decode cX6_takesSecond 62 = .ok (.putfield 159, 3) := dk_181 0 159 (dk_at dksX6_takesSecond_2 15 rfl rfl)
theorem dX6_takesSecond_65 : decode cX6_takesSecond 65 = .ok (.return_, 1) := dk_177 (dk_at dksX6_takesSecond_2 18 rfl rfl)
abbrev cX6_fault : ByteArray := prog_25_method_81_code
def yX6_fault : MethodName := ⟨RX6, "fault", "(II)I"⟩
def dkwX6_fault_2 : List UInt8 := [167, 0, 9, 42, 180, 0, 70, 27, 46, 172]
abbrev dktX6_fault_2 : List UInt8 := dkwX6_fault_2 ++ []
def dkwX6_fault_1 : List UInt8 := [184, 0, 213, 154, 0, 9, 42, 2, 182, 0, 253, 172, 28, 154, 0, 12, 42, 180, 0, 67, 27, 46]
abbrev dktX6_fault_1 : List UInt8 := dkwX6_fault_1 ++ dktX6_fault_2
def dkwX6_fault_0 : List UInt8 := [28, 3, 4, 184, 0, 213, 154, 0, 10, 42, 16, 254, 182, 0, 253, 172, 27, 3, 42, 182, 1, 120, 4, 100]
abbrev dktX6_fault_0 : List UInt8 := dkwX6_fault_0 ++ dktX6_fault_1
theorem dksX6_fault_0 : cX6_fault.data.toList.drop 0 = dktX6_fault_0 := by decide +kernel
theorem dksX6_fault_1 : cX6_fault.data.toList.drop 24 = dktX6_fault_1 := dk_seg dksX6_fault_0 24 rfl rfl
theorem dksX6_fault_2 : cX6_fault.data.toList.drop 46 = dktX6_fault_2 := dk_seg dksX6_fault_1 22 rfl rfl
theorem dX6_fault_0 : decode cX6_fault 0 = .ok (.iload_n 2, 1) := dk_28 (dk_at dksX6_fault_0 0 rfl rfl)
theorem dX6_fault_1 : decode cX6_fault 1 = .ok (.iconst 0, 1) := dk_3 (dk_at dksX6_fault_0 1 rfl rfl)
theorem dX6_fault_2 : decode cX6_fault 2 = .ok (.iconst 1, 1) := dk_4 (dk_at dksX6_fault_0 2 rfl rfl)
theorem dX6_fault_3 : decode cX6_fault 3 = .ok (.invokestatic 213, 3) := dk_184 0 213 (dk_at dksX6_fault_0 3 rfl rfl)
theorem dX6_fault_6 : decode cX6_fault 6 = .ok (.ifCond .ne 10, 3) := dk_154 0 10 (dk_at dksX6_fault_0 6 rfl rfl)
theorem dX6_fault_9 : decode cX6_fault 9 = .ok (.aload_n 0, 1) := dk_42 (dk_at dksX6_fault_0 9 rfl rfl)
theorem dX6_fault_10 : decode cX6_fault 10 = .ok (.bipush (-2), 2) := dk_16 254 (dk_at dksX6_fault_0 10 rfl rfl)
theorem dX6_fault_12 : decode cX6_fault 12 = .ok (.invokevirtual 253, 3) := dk_182 0 253 (dk_at dksX6_fault_0 12 rfl rfl)
theorem dX6_fault_15 : decode cX6_fault 15 = .ok (.ireturn, 1) := dk_172 (dk_at dksX6_fault_0 15 rfl rfl)
theorem dX6_fault_16 : decode cX6_fault 16 = .ok (.iload_n 1, 1) := dk_27 (dk_at dksX6_fault_0 16 rfl rfl)
theorem dX6_fault_17 : decode cX6_fault 17 = .ok (.iconst 0, 1) := dk_3 (dk_at dksX6_fault_0 17 rfl rfl)
theorem dX6_fault_18 : decode cX6_fault 18 = .ok (.aload_n 0, 1) := dk_42 (dk_at dksX6_fault_0 18 rfl rfl)
theorem dX6_fault_19 : decode cX6_fault 19 = .ok (.invokevirtual 376, 3) := dk_182 1 120 (dk_at dksX6_fault_0 19 rfl rfl)
theorem dX6_fault_22 : decode cX6_fault 22 = .ok (.iconst 1, 1) := dk_4 (dk_at dksX6_fault_0 22 rfl rfl)
theorem dX6_fault_23 : decode cX6_fault 23 = .ok (.isub, 1) := dk_100 (dk_at dksX6_fault_0 23 rfl rfl)
theorem dX6_fault_24 : decode cX6_fault 24 = .ok (.invokestatic 213, 3) := dk_184 0 213 (dk_at dksX6_fault_1 0 rfl rfl)
theorem dX6_fault_27 : decode cX6_fault 27 = .ok (.ifCond .ne 9, 3) := dk_154 0 9 (dk_at dksX6_fault_1 3 rfl rfl)
theorem dX6_fault_30 : decode cX6_fault 30 = .ok (.aload_n 0, 1) := dk_42 (dk_at dksX6_fault_1 6 rfl rfl)
theorem dX6_fault_31 : decode cX6_fault 31 = .ok (.iconst (-1), 1) := dk_2 (dk_at dksX6_fault_1 7 rfl rfl)
theorem dX6_fault_32 : decode cX6_fault 32 = .ok (.invokevirtual 253, 3) := dk_182 0 253 (dk_at dksX6_fault_1 8 rfl rfl)
theorem dX6_fault_35 : decode cX6_fault 35 = .ok (.ireturn, 1) := dk_172 (dk_at dksX6_fault_1 11 rfl rfl)
theorem dX6_fault_36 : decode cX6_fault 36 = .ok (.iload_n 2, 1) := dk_28 (dk_at dksX6_fault_1 12 rfl rfl)
theorem dX6_fault_37 : decode cX6_fault 37 = .ok (.ifCond .ne 12, 3) := dk_154 0 12 (dk_at dksX6_fault_1 13 rfl rfl)
theorem dX6_fault_40 : decode cX6_fault 40 = .ok (.aload_n 0, 1) := dk_42 (dk_at dksX6_fault_1 16 rfl rfl)
theorem dX6_fault_41 : decode cX6_fault 41 = .ok (.getfield 67, 3) := dk_180 0 67 (dk_at dksX6_fault_1 17 rfl rfl)
theorem dX6_fault_44 : decode cX6_fault 44 = .ok (.iload_n 1, 1) := dk_27 (dk_at dksX6_fault_1 20 rfl rfl)
theorem dX6_fault_45 : decode cX6_fault 45 = .ok (.iaload, 1) := dk_46 (dk_at dksX6_fault_1 21 rfl rfl)
theorem dX6_fault_46 : decode cX6_fault 46 = .ok (.goto 9, 3) := dk_167 0 9 (dk_at dksX6_fault_2 0 rfl rfl)
theorem dX6_fault_49 : decode cX6_fault 49 = .ok (.aload_n 0, 1) := dk_42 (dk_at dksX6_fault_2 3 rfl rfl)
theorem dX6_fault_50 : decode cX6_fault 50 = .ok (.getfield 70, 3) := dk_180 0 70 (dk_at dksX6_fault_2 4 rfl rfl)
theorem dX6_fault_53 : decode cX6_fault 53 = .ok (.iload_n 1, 1) := dk_27 (dk_at dksX6_fault_2 7 rfl rfl)
theorem dX6_fault_54 : decode cX6_fault 54 = .ok (.iaload, 1) := dk_46 (dk_at dksX6_fault_2 8 rfl rfl)
theorem dX6_fault_55 : decode cX6_fault 55 = .ok (.ireturn, 1) := dk_172 (dk_at dksX6_fault_2 9 rfl rfl)
abbrev cX6_coded : ByteArray := prog_25_method_82_code
def yX6_coded : MethodName := ⟨RX6, "coded", "(I)I"⟩
def dkwX6_coded_2 : List UInt8 := [132, 3, 255, 167, 255, 231, 28, 172]
abbrev dktX6_coded_2 : List UInt8 := dkwX6_coded_2 ++ []
def dkwX6_coded_1 : List UInt8 := [100, 62, 29, 155, 0, 27, 28, 42, 180, 0, 70, 29, 46, 27, 160, 0, 7, 4, 167, 0, 4, 3, 96, 61]
abbrev dktX6_coded_1 : List UInt8 := dkwX6_coded_1 ++ dktX6_coded_2
def dkwX6_coded_0 : List UInt8 := [27, 4, 16, 12, 184, 0, 213, 154, 0, 10, 42, 16, 254, 182, 0, 253, 172, 3, 61, 42, 182, 1, 120, 4]
abbrev dktX6_coded_0 : List UInt8 := dkwX6_coded_0 ++ dktX6_coded_1
theorem dksX6_coded_0 : cX6_coded.data.toList.drop 0 = dktX6_coded_0 := by decide +kernel
theorem dksX6_coded_1 : cX6_coded.data.toList.drop 24 = dktX6_coded_1 := dk_seg dksX6_coded_0 24 rfl rfl
theorem dksX6_coded_2 : cX6_coded.data.toList.drop 48 = dktX6_coded_2 := dk_seg dksX6_coded_1 24 rfl rfl
theorem dX6_coded_0 : decode cX6_coded 0 = .ok (.iload_n 1, 1) := dk_27 (dk_at dksX6_coded_0 0 rfl rfl)
theorem dX6_coded_1 : decode cX6_coded 1 = .ok (.iconst 1, 1) := dk_4 (dk_at dksX6_coded_0 1 rfl rfl)
theorem dX6_coded_2 : decode cX6_coded 2 = .ok (.bipush 12, 2) := dk_16 12 (dk_at dksX6_coded_0 2 rfl rfl)
theorem dX6_coded_4 : decode cX6_coded 4 = .ok (.invokestatic 213, 3) := dk_184 0 213 (dk_at dksX6_coded_0 4 rfl rfl)
theorem dX6_coded_7 : decode cX6_coded 7 = .ok (.ifCond .ne 10, 3) := dk_154 0 10 (dk_at dksX6_coded_0 7 rfl rfl)
theorem dX6_coded_10 : decode cX6_coded 10 = .ok (.aload_n 0, 1) := dk_42 (dk_at dksX6_coded_0 10 rfl rfl)
theorem dX6_coded_11 : decode cX6_coded 11 = .ok (.bipush (-2), 2) := dk_16 254 (dk_at dksX6_coded_0 11 rfl rfl)
theorem dX6_coded_13 : decode cX6_coded 13 = .ok (.invokevirtual 253, 3) := dk_182 0 253 (dk_at dksX6_coded_0 13 rfl rfl)
theorem dX6_coded_16 : decode cX6_coded 16 = .ok (.ireturn, 1) := dk_172 (dk_at dksX6_coded_0 16 rfl rfl)
theorem dX6_coded_17 : decode cX6_coded 17 = .ok (.iconst 0, 1) := dk_3 (dk_at dksX6_coded_0 17 rfl rfl)
theorem dX6_coded_18 : decode cX6_coded 18 = .ok (.istore_n 2, 1) := dk_61 (dk_at dksX6_coded_0 18 rfl rfl)
theorem dX6_coded_19 : decode cX6_coded 19 = .ok (.aload_n 0, 1) := dk_42 (dk_at dksX6_coded_0 19 rfl rfl)
theorem dX6_coded_20 : decode cX6_coded 20 = .ok (.invokevirtual 376, 3) := dk_182 1 120 (dk_at dksX6_coded_0 20 rfl rfl)
theorem dX6_coded_23 : decode cX6_coded 23 = .ok (.iconst 1, 1) := dk_4 (dk_at dksX6_coded_0 23 rfl rfl)
theorem dX6_coded_24 : decode cX6_coded 24 = .ok (.isub, 1) := dk_100 (dk_at dksX6_coded_1 0 rfl rfl)
theorem dX6_coded_25 : decode cX6_coded 25 = .ok (.istore_n 3, 1) := dk_62 (dk_at dksX6_coded_1 1 rfl rfl)
theorem dX6_coded_26 : decode cX6_coded 26 = .ok (.iload_n 3, 1) := dk_29 (dk_at dksX6_coded_1 2 rfl rfl)
theorem dX6_coded_27 : decode cX6_coded 27 = .ok (.ifCond .lt 27, 3) := dk_155 0 27 (dk_at dksX6_coded_1 3 rfl rfl)
theorem dX6_coded_30 : decode cX6_coded 30 = .ok (.iload_n 2, 1) := dk_28 (dk_at dksX6_coded_1 6 rfl rfl)
theorem dX6_coded_31 : decode cX6_coded 31 = .ok (.aload_n 0, 1) := dk_42 (dk_at dksX6_coded_1 7 rfl rfl)
theorem dX6_coded_32 : decode cX6_coded 32 = .ok (.getfield 70, 3) := dk_180 0 70 (dk_at dksX6_coded_1 8 rfl rfl)
theorem dX6_coded_35 : decode cX6_coded 35 = .ok (.iload_n 3, 1) := dk_29 (dk_at dksX6_coded_1 11 rfl rfl)
theorem dX6_coded_36 : decode cX6_coded 36 = .ok (.iaload, 1) := dk_46 (dk_at dksX6_coded_1 12 rfl rfl)
theorem dX6_coded_37 : decode cX6_coded 37 = .ok (.iload_n 1, 1) := dk_27 (dk_at dksX6_coded_1 13 rfl rfl)
theorem dX6_coded_38 : decode cX6_coded 38 = .ok (.if_icmp .ne 7, 3) := dk_160 0 7 (dk_at dksX6_coded_1 14 rfl rfl)
theorem dX6_coded_41 : decode cX6_coded 41 = .ok (.iconst 1, 1) := dk_4 (dk_at dksX6_coded_1 17 rfl rfl)
theorem dX6_coded_42 : decode cX6_coded 42 = .ok (.goto 4, 3) := dk_167 0 4 (dk_at dksX6_coded_1 18 rfl rfl)
theorem dX6_coded_45 : decode cX6_coded 45 = .ok (.iconst 0, 1) := dk_3 (dk_at dksX6_coded_1 21 rfl rfl)
theorem dX6_coded_46 : decode cX6_coded 46 = .ok (.iadd, 1) := dk_96 (dk_at dksX6_coded_1 22 rfl rfl)
theorem dX6_coded_47 : decode cX6_coded 47 = .ok (.istore_n 2, 1) := dk_61 (dk_at dksX6_coded_1 23 rfl rfl)
theorem dX6_coded_48 : decode cX6_coded 48 = .ok (.iinc 3 (-1), 3) := dk_132 3 255 (dk_at dksX6_coded_2 0 rfl rfl)
theorem dX6_coded_51 : decode cX6_coded 51 = .ok (.goto (-25), 3) := dk_167 255 231 (dk_at dksX6_coded_2 3 rfl rfl)
theorem dX6_coded_54 : decode cX6_coded 54 = .ok (.iload_n 2, 1) := dk_28 (dk_at dksX6_coded_2 6 rfl rfl)
theorem dX6_coded_55 : decode cX6_coded 55 = .ok (.ireturn, 1) := dk_172 (dk_at dksX6_coded_2 7 rfl rfl)
abbrev cX6_below : ByteArray := prog_25_method_83_code
def yX6_below : MethodName := ⟨RX6, "below", "(I)I"⟩
def dkwX6_below_2 : List UInt8 := [153, 0, 7, 4, 167, 0, 4, 3, 96, 62, 132, 4, 255, 167, 255, 226, 29, 172]
abbrev dktX6_below_2 : List UInt8 := dkwX6_below_2 ++ []
def dkwX6_below_1 : List UInt8 := [182, 1, 120, 4, 100, 54, 4, 21, 4, 155, 0, 31, 29, 42, 180, 0, 67, 21, 4, 46, 27, 184, 0, 176]
abbrev dktX6_below_1 : List UInt8 := dkwX6_below_1 ++ dktX6_below_2
def dkwX6_below_0 : List UInt8 := [27, 3, 19, 1, 123, 184, 0, 246, 61, 28, 153, 0, 9, 42, 28, 182, 0, 253, 172, 3, 62, 42]
abbrev dktX6_below_0 : List UInt8 := dkwX6_below_0 ++ dktX6_below_1
theorem dksX6_below_0 : cX6_below.data.toList.drop 0 = dktX6_below_0 := by decide +kernel
theorem dksX6_below_1 : cX6_below.data.toList.drop 22 = dktX6_below_1 := dk_seg dksX6_below_0 22 rfl rfl
theorem dksX6_below_2 : cX6_below.data.toList.drop 46 = dktX6_below_2 := dk_seg dksX6_below_1 24 rfl rfl
theorem dX6_below_0 : decode cX6_below 0 = .ok (.iload_n 1, 1) := dk_27 (dk_at dksX6_below_0 0 rfl rfl)
theorem dX6_below_1 : decode cX6_below 1 = .ok (.iconst 0, 1) := dk_3 (dk_at dksX6_below_0 1 rfl rfl)
theorem dX6_below_2 : decode cX6_below 2 = .ok (.ldc_w 379, 3) := dk_19 1 123 (dk_at dksX6_below_0 2 rfl rfl)
theorem dX6_below_5 : decode cX6_below 5 = .ok (.invokestatic 246, 3) := dk_184 0 246 (dk_at dksX6_below_0 5 rfl rfl)
theorem dX6_below_8 : decode cX6_below 8 = .ok (.istore_n 2, 1) := dk_61 (dk_at dksX6_below_0 8 rfl rfl)
theorem dX6_below_9 : decode cX6_below 9 = .ok (.iload_n 2, 1) := dk_28 (dk_at dksX6_below_0 9 rfl rfl)
theorem dX6_below_10 : decode cX6_below 10 = .ok (.ifCond .eq 9, 3) := dk_153 0 9 (dk_at dksX6_below_0 10 rfl rfl)
theorem dX6_below_13 : decode cX6_below 13 = .ok (.aload_n 0, 1) := dk_42 (dk_at dksX6_below_0 13 rfl rfl)
theorem dX6_below_14 : decode cX6_below 14 = .ok (.iload_n 2, 1) := dk_28 (dk_at dksX6_below_0 14 rfl rfl)
theorem dX6_below_15 : decode cX6_below 15 = .ok (.invokevirtual 253, 3) := dk_182 0 253 (dk_at dksX6_below_0 15 rfl rfl)
theorem dX6_below_18 : decode cX6_below 18 = .ok (.ireturn, 1) := dk_172 (dk_at dksX6_below_0 18 rfl rfl)
theorem dX6_below_19 : decode cX6_below 19 = .ok (.iconst 0, 1) := dk_3 (dk_at dksX6_below_0 19 rfl rfl)
theorem dX6_below_20 : decode cX6_below 20 = .ok (.istore_n 3, 1) := dk_62 (dk_at dksX6_below_0 20 rfl rfl)
theorem dX6_below_21 : decode cX6_below 21 = .ok (.aload_n 0, 1) := dk_42 (dk_at dksX6_below_0 21 rfl rfl)
theorem dX6_below_22 : decode cX6_below 22 = .ok (.invokevirtual 376, 3) := dk_182 1 120 (dk_at dksX6_below_1 0 rfl rfl)
theorem dX6_below_25 : decode cX6_below 25 = .ok (.iconst 1, 1) := dk_4 (dk_at dksX6_below_1 3 rfl rfl)
theorem dX6_below_26 : decode cX6_below 26 = .ok (.isub, 1) := dk_100 (dk_at dksX6_below_1 4 rfl rfl)
theorem dX6_below_27 : decode cX6_below 27 = .ok (.istore 4, 2) := dk_54 4 (dk_at dksX6_below_1 5 rfl rfl)
theorem dX6_below_29 : decode cX6_below 29 = .ok (.iload 4, 2) := dk_21 4 (dk_at dksX6_below_1 7 rfl rfl)
theorem dX6_below_31 : decode cX6_below 31 = .ok (.ifCond .lt 31, 3) := dk_155 0 31 (dk_at dksX6_below_1 9 rfl rfl)
theorem dX6_below_34 : decode cX6_below 34 = .ok (.iload_n 3, 1) := dk_29 (dk_at dksX6_below_1 12 rfl rfl)
theorem dX6_below_35 : decode cX6_below 35 = .ok (.aload_n 0, 1) := dk_42 (dk_at dksX6_below_1 13 rfl rfl)
theorem dX6_below_36 : decode cX6_below 36 = .ok (.getfield 67, 3) := dk_180 0 67 (dk_at dksX6_below_1 14 rfl rfl)
theorem dX6_below_39 : decode cX6_below 39 = .ok (.iload 4, 2) := dk_21 4 (dk_at dksX6_below_1 17 rfl rfl)
theorem dX6_below_41 : decode cX6_below 41 = .ok (.iaload, 1) := dk_46 (dk_at dksX6_below_1 19 rfl rfl)
theorem dX6_below_42 : decode cX6_below 42 = .ok (.iload_n 1, 1) := dk_27 (dk_at dksX6_below_1 20 rfl rfl)
theorem dX6_below_43 : decode cX6_below 43 = .ok (.invokestatic 176, 3) := dk_184 0 176 (dk_at dksX6_below_1 21 rfl rfl)
theorem dX6_below_46 : decode cX6_below 46 = .ok (.ifCond .eq 7, 3) := dk_153 0 7 (dk_at dksX6_below_2 0 rfl rfl)
theorem dX6_below_49 : decode cX6_below 49 = .ok (.iconst 1, 1) := dk_4 (dk_at dksX6_below_2 3 rfl rfl)
theorem dX6_below_50 : decode cX6_below 50 = .ok (.goto 4, 3) := dk_167 0 4 (dk_at dksX6_below_2 4 rfl rfl)
theorem dX6_below_53 : decode cX6_below 53 = .ok (.iconst 0, 1) := dk_3 (dk_at dksX6_below_2 7 rfl rfl)
theorem dX6_below_54 : decode cX6_below 54 = .ok (.iadd, 1) := dk_96 (dk_at dksX6_below_2 8 rfl rfl)
theorem dX6_below_55 : decode cX6_below 55 = .ok (.istore_n 3, 1) := dk_62 (dk_at dksX6_below_2 9 rfl rfl)
theorem dX6_below_56 : decode cX6_below 56 = .ok (.iinc 4 (-1), 3) := dk_132 4 255 (dk_at dksX6_below_2 10 rfl rfl)
theorem dX6_below_59 : decode cX6_below 59 = .ok (.goto (-30), 3) := dk_167 255 226 (dk_at dksX6_below_2 13 rfl rfl)
theorem dX6_below_62 : decode cX6_below 62 = .ok (.iload_n 3, 1) := dk_29 (dk_at dksX6_below_2 16 rfl rfl)
theorem dX6_below_63 : decode cX6_below 63 = .ok (.ireturn, 1) := dk_172 (dk_at dksX6_below_2 17 rfl rfl)
abbrev cX6_waits : ByteArray := prog_25_method_84_code
def yX6_waits : MethodName := ⟨RX6, "waits", "()I"⟩
def dkwX6_waits_0 : List UInt8 := [42, 182, 1, 117, 42, 180, 0, 185, 172]
abbrev dktX6_waits_0 : List UInt8 := dkwX6_waits_0 ++ []
theorem dksX6_waits_0 : cX6_waits.data.toList.drop 0 = dktX6_waits_0 := by decide +kernel
theorem dX6_waits_0 : decode cX6_waits 0 = .ok (.aload_n 0, 1) := dk_42 (dk_at dksX6_waits_0 0 rfl rfl)
theorem dX6_waits_1 : decode cX6_waits 1 = .ok (.invokevirtual 373, 3) := dk_182 1 117 (dk_at dksX6_waits_0 1 rfl rfl)
theorem dX6_waits_4 : decode cX6_waits 4 = .ok (.aload_n 0, 1) := dk_42 (dk_at dksX6_waits_0 4 rfl rfl)
theorem dX6_waits_5 : decode cX6_waits 5 = .ok (.getfield 185, 3) := dk_180 0 185 (dk_at dksX6_waits_0 5 rfl rfl)
theorem dX6_waits_8 : decode cX6_waits 8 = .ok (.ireturn, 1) := dk_172 (dk_at dksX6_waits_0 8 rfl rfl)
abbrev cX6_first : ByteArray := prog_25_method_86_code
def yX6_first : MethodName := ⟨RX6, "first", "()I"⟩
def dkwX6_first_0 : List UInt8 := [42, 182, 1, 117, 42, 3, 182, 1, 124, 172]
abbrev dktX6_first_0 : List UInt8 := dkwX6_first_0 ++ []
theorem dksX6_first_0 : cX6_first.data.toList.drop 0 = dktX6_first_0 := by decide +kernel
theorem dX6_first_0 : decode cX6_first 0 = .ok (.aload_n 0, 1) := dk_42 (dk_at dksX6_first_0 0 rfl rfl)
theorem dX6_first_1 : decode cX6_first 1 = .ok (.invokevirtual 373, 3) := dk_182 1 117 (dk_at dksX6_first_0 1 rfl rfl)
theorem dX6_first_4 : decode cX6_first 4 = .ok (.aload_n 0, 1) := dk_42 (dk_at dksX6_first_0 4 rfl rfl)
theorem dX6_first_5 : decode cX6_first 5 = .ok (.iconst 0, 1) := dk_3 (dk_at dksX6_first_0 5 rfl rfl)
theorem dX6_first_6 : decode cX6_first 6 = .ok (.invokevirtual 380, 3) := dk_182 1 124 (dk_at dksX6_first_0 6 rfl rfl)
theorem dX6_first_9 : decode cX6_first 9 = .ok (.ireturn, 1) := dk_172 (dk_at dksX6_first_0 9 rfl rfl)
abbrev cX6_toldAt : ByteArray := prog_25_method_85_code
def yX6_toldAt : MethodName := ⟨RX6, "toldAt", "(I)I"⟩
def dkwX6_toldAt_1 : List UInt8 := [180, 0, 70, 27, 46, 96, 167, 0, 5, 16, 247, 172]
abbrev dktX6_toldAt_1 : List UInt8 := dkwX6_toldAt_1 ++ []
def dkwX6_toldAt_0 : List UInt8 := [27, 3, 42, 180, 0, 159, 4, 100, 184, 0, 213, 153, 0, 22, 16, 100, 42, 180, 0, 67, 27, 46, 104, 42]
abbrev dktX6_toldAt_0 : List UInt8 := dkwX6_toldAt_0 ++ dktX6_toldAt_1
theorem dksX6_toldAt_0 : cX6_toldAt.data.toList.drop 0 = dktX6_toldAt_0 := by decide +kernel
theorem dksX6_toldAt_1 : cX6_toldAt.data.toList.drop 24 = dktX6_toldAt_1 := dk_seg dksX6_toldAt_0 24 rfl rfl
theorem dX6_toldAt_0 : decode cX6_toldAt 0 = .ok (.iload_n 1, 1) := dk_27 (dk_at dksX6_toldAt_0 0 rfl rfl)
theorem dX6_toldAt_1 : decode cX6_toldAt 1 = .ok (.iconst 0, 1) := dk_3 (dk_at dksX6_toldAt_0 1 rfl rfl)
theorem dX6_toldAt_2 : decode cX6_toldAt 2 = .ok (.aload_n 0, 1) := dk_42 (dk_at dksX6_toldAt_0 2 rfl rfl)
theorem dX6_toldAt_3 : decode cX6_toldAt 3 = .ok (.getfield 159, 3) := dk_180 0 159 (dk_at dksX6_toldAt_0 3 rfl rfl)
theorem dX6_toldAt_6 : decode cX6_toldAt 6 = .ok (.iconst 1, 1) := dk_4 (dk_at dksX6_toldAt_0 6 rfl rfl)
theorem dX6_toldAt_7 : decode cX6_toldAt 7 = .ok (.isub, 1) := dk_100 (dk_at dksX6_toldAt_0 7 rfl rfl)
theorem dX6_toldAt_8 : decode cX6_toldAt 8 = .ok (.invokestatic 213, 3) := dk_184 0 213 (dk_at dksX6_toldAt_0 8 rfl rfl)
theorem dX6_toldAt_11 : decode cX6_toldAt 11 = .ok (.ifCond .eq 22, 3) := dk_153 0 22 (dk_at dksX6_toldAt_0 11 rfl rfl)
theorem dX6_toldAt_14 : decode cX6_toldAt 14 = .ok (.bipush 100, 2) := dk_16 100 (dk_at dksX6_toldAt_0 14 rfl rfl)
theorem dX6_toldAt_16 : decode cX6_toldAt 16 = .ok (.aload_n 0, 1) := dk_42 (dk_at dksX6_toldAt_0 16 rfl rfl)
theorem dX6_toldAt_17 : decode cX6_toldAt 17 = .ok (.getfield 67, 3) := dk_180 0 67 (dk_at dksX6_toldAt_0 17 rfl rfl)
theorem dX6_toldAt_20 : decode cX6_toldAt 20 = .ok (.iload_n 1, 1) := dk_27 (dk_at dksX6_toldAt_0 20 rfl rfl)
theorem dX6_toldAt_21 : decode cX6_toldAt 21 = .ok (.iaload, 1) := dk_46 (dk_at dksX6_toldAt_0 21 rfl rfl)
theorem dX6_toldAt_22 : decode cX6_toldAt 22 = .ok (.imul, 1) := dk_104 (dk_at dksX6_toldAt_0 22 rfl rfl)
theorem dX6_toldAt_23 : decode cX6_toldAt 23 = .ok (.aload_n 0, 1) := dk_42 (dk_at dksX6_toldAt_0 23 rfl rfl)
theorem dX6_toldAt_24 : decode cX6_toldAt 24 = .ok (.getfield 70, 3) := dk_180 0 70 (dk_at dksX6_toldAt_1 0 rfl rfl)
theorem dX6_toldAt_27 : decode cX6_toldAt 27 = .ok (.iload_n 1, 1) := dk_27 (dk_at dksX6_toldAt_1 3 rfl rfl)
theorem dX6_toldAt_28 : decode cX6_toldAt 28 = .ok (.iaload, 1) := dk_46 (dk_at dksX6_toldAt_1 4 rfl rfl)
theorem dX6_toldAt_29 : decode cX6_toldAt 29 = .ok (.iadd, 1) := dk_96 (dk_at dksX6_toldAt_1 5 rfl rfl)
theorem dX6_toldAt_30 : decode cX6_toldAt 30 = .ok (.goto 5, 3) := dk_167 0 5 (dk_at dksX6_toldAt_1 6 rfl rfl)
theorem dX6_toldAt_33 : decode cX6_toldAt 33 = .ok (.bipush (-9), 2) := dk_16 247 (dk_at dksX6_toldAt_1 9 rfl rfl)
theorem dX6_toldAt_35 : decode cX6_toldAt 35 = .ok (.ireturn, 1) := dk_172 (dk_at dksX6_toldAt_1 11 rfl rfl)
abbrev cX6_limited : ByteArray := prog_25_method_87_code
def yX6_limited : MethodName := ⟨RX6, "limited", "(II)I"⟩
def dkwX6_limited_2 : List UInt8 := [167, 0, 4, 27, 54, 4, 28, 154, 0, 8, 21, 4, 167, 0, 11, 42, 21, 4, 4, 100, 182, 1, 124, 172]
abbrev dktX6_limited_2 : List UInt8 := dkwX6_limited_2 ++ []
def dkwX6_limited_1 : List UInt8 := [29, 153, 0, 9, 42, 29, 182, 0, 253, 172, 42, 182, 1, 120, 27, 162, 0, 10, 42, 180, 0, 159]
abbrev dktX6_limited_1 : List UInt8 := dkwX6_limited_1 ++ dktX6_limited_2
def dkwX6_limited_0 : List UInt8 := [27, 3, 16, 99, 184, 0, 246, 62, 29, 154, 0, 15, 28, 3, 4, 184, 0, 213, 154, 0, 6, 16, 254, 62]
abbrev dktX6_limited_0 : List UInt8 := dkwX6_limited_0 ++ dktX6_limited_1
theorem dksX6_limited_0 : cX6_limited.data.toList.drop 0 = dktX6_limited_0 := by decide +kernel
theorem dksX6_limited_1 : cX6_limited.data.toList.drop 24 = dktX6_limited_1 := dk_seg dksX6_limited_0 24 rfl rfl
theorem dksX6_limited_2 : cX6_limited.data.toList.drop 46 = dktX6_limited_2 := dk_seg dksX6_limited_1 22 rfl rfl
theorem dX6_limited_0 : decode cX6_limited 0 = .ok (.iload_n 1, 1) := dk_27 (dk_at dksX6_limited_0 0 rfl rfl)
theorem dX6_limited_1 : decode cX6_limited 1 = .ok (.iconst 0, 1) := dk_3 (dk_at dksX6_limited_0 1 rfl rfl)
theorem dX6_limited_2 : decode cX6_limited 2 = .ok (.bipush 99, 2) := dk_16 99 (dk_at dksX6_limited_0 2 rfl rfl)
theorem dX6_limited_4 : decode cX6_limited 4 = .ok (.invokestatic 246, 3) := dk_184 0 246 (dk_at dksX6_limited_0 4 rfl rfl)
theorem dX6_limited_7 : decode cX6_limited 7 = .ok (.istore_n 3, 1) := dk_62 (dk_at dksX6_limited_0 7 rfl rfl)
theorem dX6_limited_8 : decode cX6_limited 8 = .ok (.iload_n 3, 1) := dk_29 (dk_at dksX6_limited_0 8 rfl rfl)
theorem dX6_limited_9 : decode cX6_limited 9 = .ok (.ifCond .ne 15, 3) := dk_154 0 15 (dk_at dksX6_limited_0 9 rfl rfl)
theorem dX6_limited_12 : decode cX6_limited 12 = .ok (.iload_n 2, 1) := dk_28 (dk_at dksX6_limited_0 12 rfl rfl)
theorem dX6_limited_13 : decode cX6_limited 13 = .ok (.iconst 0, 1) := dk_3 (dk_at dksX6_limited_0 13 rfl rfl)
theorem dX6_limited_14 : decode cX6_limited 14 = .ok (.iconst 1, 1) := dk_4 (dk_at dksX6_limited_0 14 rfl rfl)
theorem dX6_limited_15 : decode cX6_limited 15 = .ok (.invokestatic 213, 3) := dk_184 0 213 (dk_at dksX6_limited_0 15 rfl rfl)
theorem dX6_limited_18 : decode cX6_limited 18 = .ok (.ifCond .ne 6, 3) := dk_154 0 6 (dk_at dksX6_limited_0 18 rfl rfl)
theorem dX6_limited_21 : decode cX6_limited 21 = .ok (.bipush (-2), 2) := dk_16 254 (dk_at dksX6_limited_0 21 rfl rfl)
theorem dX6_limited_23 : decode cX6_limited 23 = .ok (.istore_n 3, 1) := dk_62 (dk_at dksX6_limited_0 23 rfl rfl)
theorem dX6_limited_24 : decode cX6_limited 24 = .ok (.iload_n 3, 1) := dk_29 (dk_at dksX6_limited_1 0 rfl rfl)
theorem dX6_limited_25 : decode cX6_limited 25 = .ok (.ifCond .eq 9, 3) := dk_153 0 9 (dk_at dksX6_limited_1 1 rfl rfl)
theorem dX6_limited_28 : decode cX6_limited 28 = .ok (.aload_n 0, 1) := dk_42 (dk_at dksX6_limited_1 4 rfl rfl)
theorem dX6_limited_29 : decode cX6_limited 29 = .ok (.iload_n 3, 1) := dk_29 (dk_at dksX6_limited_1 5 rfl rfl)
theorem dX6_limited_30 : decode cX6_limited 30 = .ok (.invokevirtual 253, 3) := dk_182 0 253 (dk_at dksX6_limited_1 6 rfl rfl)
theorem dX6_limited_33 : decode cX6_limited 33 = .ok (.ireturn, 1) := dk_172 (dk_at dksX6_limited_1 9 rfl rfl)
theorem dX6_limited_34 : decode cX6_limited 34 = .ok (.aload_n 0, 1) := dk_42 (dk_at dksX6_limited_1 10 rfl rfl)
theorem dX6_limited_35 : decode cX6_limited 35 = .ok (.invokevirtual 376, 3) := dk_182 1 120 (dk_at dksX6_limited_1 11 rfl rfl)
theorem dX6_limited_38 : decode cX6_limited 38 = .ok (.iload_n 1, 1) := dk_27 (dk_at dksX6_limited_1 14 rfl rfl)
theorem dX6_limited_39 : decode cX6_limited 39 = .ok (.if_icmp .ge 10, 3) := dk_162 0 10 (dk_at dksX6_limited_1 15 rfl rfl)
theorem dX6_limited_42 : decode cX6_limited 42 = .ok (.aload_n 0, 1) := dk_42 (dk_at dksX6_limited_1 18 rfl rfl)
theorem dX6_limited_43 : decode cX6_limited 43 = .ok (.getfield 159, 3) := dk_180 0 159 (dk_at dksX6_limited_1 19 rfl rfl)
theorem dX6_limited_46 : decode cX6_limited 46 = .ok (.goto 4, 3) := dk_167 0 4 (dk_at dksX6_limited_2 0 rfl rfl)
theorem dX6_limited_49 : decode cX6_limited 49 = .ok (.iload_n 1, 1) := dk_27 (dk_at dksX6_limited_2 3 rfl rfl)
theorem dX6_limited_50 : decode cX6_limited 50 = .ok (.istore 4, 2) := dk_54 4 (dk_at dksX6_limited_2 4 rfl rfl)
theorem dX6_limited_52 : decode cX6_limited 52 = .ok (.iload_n 2, 1) := dk_28 (dk_at dksX6_limited_2 6 rfl rfl)
theorem dX6_limited_53 : decode cX6_limited 53 = .ok (.ifCond .ne 8, 3) := dk_154 0 8 (dk_at dksX6_limited_2 7 rfl rfl)
theorem dX6_limited_56 : decode cX6_limited 56 = .ok (.iload 4, 2) := dk_21 4 (dk_at dksX6_limited_2 10 rfl rfl)
theorem dX6_limited_58 : decode cX6_limited 58 = .ok (.goto 11, 3) := dk_167 0 11 (dk_at dksX6_limited_2 12 rfl rfl)
theorem dX6_limited_61 : decode cX6_limited 61 = .ok (.aload_n 0, 1) := dk_42 (dk_at dksX6_limited_2 15 rfl rfl)
theorem dX6_limited_62 : decode cX6_limited 62 = .ok (.iload 4, 2) := dk_21 4 (dk_at dksX6_limited_2 16 rfl rfl)
theorem dX6_limited_64 : decode cX6_limited 64 = .ok (.iconst 1, 1) := dk_4 (dk_at dksX6_limited_2 18 rfl rfl)
theorem dX6_limited_65 : decode cX6_limited 65 = .ok (.isub, 1) := dk_100 (dk_at dksX6_limited_2 19 rfl rfl)
theorem dX6_limited_66 : decode cX6_limited 66 = .ok (.invokevirtual 380, 3) := dk_182 1 124 (dk_at dksX6_limited_2 20 rfl rfl)
theorem dX6_limited_69 : decode cX6_limited 69 = .ok (.ireturn, 1) := dk_172 (dk_at dksX6_limited_2 23 rfl rfl)
abbrev cX6_total : ByteArray := prog_25_method_89_code
def yX6_total : MethodName := ⟨RX6, "total", "()I"⟩
def dkwX6_total_0 : List UInt8 := [42, 182, 1, 120, 158, 0, 8, 16, 247, 167, 0, 7, 42, 182, 1, 127, 172]
abbrev dktX6_total_0 : List UInt8 := dkwX6_total_0 ++ []
theorem dksX6_total_0 : cX6_total.data.toList.drop 0 = dktX6_total_0 := by decide +kernel
theorem dX6_total_0 : decode cX6_total 0 = .ok (.aload_n 0, 1) := dk_42 (dk_at dksX6_total_0 0 rfl rfl)
theorem dX6_total_1 : decode cX6_total 1 = .ok (.invokevirtual 376, 3) := dk_182 1 120 (dk_at dksX6_total_0 1 rfl rfl)
theorem dX6_total_4 : decode cX6_total 4 = .ok (.ifCond .le 8, 3) := dk_158 0 8 (dk_at dksX6_total_0 4 rfl rfl)
theorem dX6_total_7 : decode cX6_total 7 = .ok (.bipush (-9), 2) := dk_16 247 (dk_at dksX6_total_0 7 rfl rfl)
theorem dX6_total_9 : decode cX6_total 9 = .ok (.goto 7, 3) := dk_167 0 7 (dk_at dksX6_total_0 9 rfl rfl)
theorem dX6_total_12 : decode cX6_total 12 = .ok (.aload_n 0, 1) := dk_42 (dk_at dksX6_total_0 12 rfl rfl)
theorem dX6_total_13 : decode cX6_total 13 = .ok (.invokevirtual 383, 3) := dk_182 1 127 (dk_at dksX6_total_0 13 rfl rfl)
theorem dX6_total_16 : decode cX6_total 16 = .ok (.ireturn, 1) := dk_172 (dk_at dksX6_total_0 16 rfl rfl)
abbrev cX6_allNumbers : ByteArray := prog_25_method_88_code
def yX6_allNumbers : MethodName := ⟨RX6, "allNumbers", "()I"⟩
def dkwX6_allNumbers_1 : List UInt8 := [180, 0, 16, 28, 46, 167, 0, 4, 3, 96, 60, 132, 2, 1, 167, 255, 223, 27, 172]
abbrev dktX6_allNumbers_1 : List UInt8 := dkwX6_allNumbers_1 ++ []
def dkwX6_allNumbers_0 : List UInt8 := [3, 60, 3, 61, 28, 42, 180, 0, 118, 162, 0, 31, 27, 42, 180, 0, 13, 28, 46, 154, 0, 12, 42]
abbrev dktX6_allNumbers_0 : List UInt8 := dkwX6_allNumbers_0 ++ dktX6_allNumbers_1
theorem dksX6_allNumbers_0 : cX6_allNumbers.data.toList.drop 0 = dktX6_allNumbers_0 := by decide +kernel
theorem dksX6_allNumbers_1 : cX6_allNumbers.data.toList.drop 23 = dktX6_allNumbers_1 := dk_seg dksX6_allNumbers_0 23 rfl rfl
theorem dX6_allNumbers_0 : decode cX6_allNumbers 0 = .ok (.iconst 0, 1) := dk_3 (dk_at dksX6_allNumbers_0 0 rfl rfl)
theorem dX6_allNumbers_1 : decode cX6_allNumbers 1 = .ok (.istore_n 1, 1) := dk_60 (dk_at dksX6_allNumbers_0 1 rfl rfl)
theorem dX6_allNumbers_2 : decode cX6_allNumbers 2 = .ok (.iconst 0, 1) := dk_3 (dk_at dksX6_allNumbers_0 2 rfl rfl)
theorem dX6_allNumbers_3 : decode cX6_allNumbers 3 = .ok (.istore_n 2, 1) := dk_61 (dk_at dksX6_allNumbers_0 3 rfl rfl)
theorem dX6_allNumbers_4 : decode cX6_allNumbers 4 = .ok (.iload_n 2, 1) := dk_28 (dk_at dksX6_allNumbers_0 4 rfl rfl)
theorem dX6_allNumbers_5 : decode cX6_allNumbers 5 = .ok (.aload_n 0, 1) := dk_42 (dk_at dksX6_allNumbers_0 5 rfl rfl)
theorem dX6_allNumbers_6 : decode cX6_allNumbers 6 = .ok (.getfield 118, 3) := dk_180 0 118 (dk_at dksX6_allNumbers_0 6 rfl rfl)
theorem dX6_allNumbers_9 : decode cX6_allNumbers 9 = .ok (.if_icmp .ge 31, 3) := dk_162 0 31 (dk_at dksX6_allNumbers_0 9 rfl rfl)
theorem dX6_allNumbers_12 : decode cX6_allNumbers 12 = .ok (.iload_n 1, 1) := dk_27 (dk_at dksX6_allNumbers_0 12 rfl rfl)
theorem dX6_allNumbers_13 : decode cX6_allNumbers 13 = .ok (.aload_n 0, 1) := dk_42 (dk_at dksX6_allNumbers_0 13 rfl rfl)
theorem dX6_allNumbers_14 : decode cX6_allNumbers 14 = .ok (.getfield 13, 3) := dk_180 0 13 (dk_at dksX6_allNumbers_0 14 rfl rfl)
theorem dX6_allNumbers_17 : decode cX6_allNumbers 17 = .ok (.iload_n 2, 1) := dk_28 (dk_at dksX6_allNumbers_0 17 rfl rfl)
theorem dX6_allNumbers_18 : decode cX6_allNumbers 18 = .ok (.iaload, 1) := dk_46 (dk_at dksX6_allNumbers_0 18 rfl rfl)
theorem dX6_allNumbers_19 : decode cX6_allNumbers 19 = .ok (.ifCond .ne 12, 3) := dk_154 0 12 (dk_at dksX6_allNumbers_0 19 rfl rfl)
theorem dX6_allNumbers_22 : decode cX6_allNumbers 22 = .ok (.aload_n 0, 1) := dk_42 (dk_at dksX6_allNumbers_0 22 rfl rfl)
theorem dX6_allNumbers_23 : decode cX6_allNumbers 23 = .ok (.getfield 16, 3) := dk_180 0 16 (dk_at dksX6_allNumbers_1 0 rfl rfl)
theorem dX6_allNumbers_26 : decode cX6_allNumbers 26 = .ok (.iload_n 2, 1) := dk_28 (dk_at dksX6_allNumbers_1 3 rfl rfl)
theorem dX6_allNumbers_27 : decode cX6_allNumbers 27 = .ok (.iaload, 1) := dk_46 (dk_at dksX6_allNumbers_1 4 rfl rfl)
theorem dX6_allNumbers_28 : decode cX6_allNumbers 28 = .ok (.goto 4, 3) := dk_167 0 4 (dk_at dksX6_allNumbers_1 5 rfl rfl)
theorem dX6_allNumbers_31 : decode cX6_allNumbers 31 = .ok (.iconst 0, 1) := dk_3 (dk_at dksX6_allNumbers_1 8 rfl rfl)
theorem dX6_allNumbers_32 : decode cX6_allNumbers 32 = .ok (.iadd, 1) := dk_96 (dk_at dksX6_allNumbers_1 9 rfl rfl)
theorem dX6_allNumbers_33 : decode cX6_allNumbers 33 = .ok (.istore_n 1, 1) := dk_60 (dk_at dksX6_allNumbers_1 10 rfl rfl)
theorem dX6_allNumbers_34 : decode cX6_allNumbers 34 = .ok (.iinc 2 1, 3) := dk_132 2 1 (dk_at dksX6_allNumbers_1 11 rfl rfl)
theorem dX6_allNumbers_37 : decode cX6_allNumbers 37 = .ok (.goto (-33), 3) := dk_167 255 223 (dk_at dksX6_allNumbers_1 14 rfl rfl)
theorem dX6_allNumbers_40 : decode cX6_allNumbers 40 = .ok (.iload_n 1, 1) := dk_27 (dk_at dksX6_allNumbers_1 17 rfl rfl)
theorem dX6_allNumbers_41 : decode cX6_allNumbers 41 = .ok (.ireturn, 1) := dk_172 (dk_at dksX6_allNumbers_1 18 rfl rfl)
abbrev cX6_same : ByteArray := prog_25_method_90_code
def yX6_same : MethodName := ⟨RX6, "same", "(II)I"⟩
def dkwX6_same_1 : List UInt8 := [27, 182, 0, 146, 42, 28, 182, 0, 146, 182, 0, 191, 153, 0, 7, 4, 167, 0, 4, 3, 172]
abbrev dktX6_same_1 : List UInt8 := dkwX6_same_1 ++ []
def dkwX6_same_0 : List UInt8 := [42, 27, 182, 0, 146, 155, 0, 11, 42, 28, 182, 0, 146, 156, 0, 9, 42, 2, 182, 0, 253, 172, 42, 42]
abbrev dktX6_same_0 : List UInt8 := dkwX6_same_0 ++ dktX6_same_1
theorem dksX6_same_0 : cX6_same.data.toList.drop 0 = dktX6_same_0 := by decide +kernel
theorem dksX6_same_1 : cX6_same.data.toList.drop 24 = dktX6_same_1 := dk_seg dksX6_same_0 24 rfl rfl
theorem dX6_same_0 : decode cX6_same 0 = .ok (.aload_n 0, 1) := dk_42 (dk_at dksX6_same_0 0 rfl rfl)
theorem dX6_same_1 : decode cX6_same 1 = .ok (.iload_n 1, 1) := dk_27 (dk_at dksX6_same_0 1 rfl rfl)
theorem dX6_same_2 : decode cX6_same 2 = .ok (.invokevirtual 146, 3) := dk_182 0 146 (dk_at dksX6_same_0 2 rfl rfl)
theorem dX6_same_5 : decode cX6_same 5 = .ok (.ifCond .lt 11, 3) := dk_155 0 11 (dk_at dksX6_same_0 5 rfl rfl)
theorem dX6_same_8 : decode cX6_same 8 = .ok (.aload_n 0, 1) := dk_42 (dk_at dksX6_same_0 8 rfl rfl)
theorem dX6_same_9 : decode cX6_same 9 = .ok (.iload_n 2, 1) := dk_28 (dk_at dksX6_same_0 9 rfl rfl)
theorem dX6_same_10 : decode cX6_same 10 = .ok (.invokevirtual 146, 3) := dk_182 0 146 (dk_at dksX6_same_0 10 rfl rfl)
theorem dX6_same_13 : decode cX6_same 13 = .ok (.ifCond .ge 9, 3) := dk_156 0 9 (dk_at dksX6_same_0 13 rfl rfl)
theorem dX6_same_16 : decode cX6_same 16 = .ok (.aload_n 0, 1) := dk_42 (dk_at dksX6_same_0 16 rfl rfl)
theorem dX6_same_17 : decode cX6_same 17 = .ok (.iconst (-1), 1) := dk_2 (dk_at dksX6_same_0 17 rfl rfl)
theorem dX6_same_18 : decode cX6_same 18 = .ok (.invokevirtual 253, 3) := dk_182 0 253 (dk_at dksX6_same_0 18 rfl rfl)
theorem dX6_same_21 : decode cX6_same 21 = .ok (.ireturn, 1) := dk_172 (dk_at dksX6_same_0 21 rfl rfl)
theorem dX6_same_22 : decode cX6_same 22 = .ok (.aload_n 0, 1) := dk_42 (dk_at dksX6_same_0 22 rfl rfl)
theorem dX6_same_23 : decode cX6_same 23 = .ok (.aload_n 0, 1) := dk_42 (dk_at dksX6_same_0 23 rfl rfl)
theorem dX6_same_24 : decode cX6_same 24 = .ok (.iload_n 1, 1) := dk_27 (dk_at dksX6_same_1 0 rfl rfl)
theorem dX6_same_25 : decode cX6_same 25 = .ok (.invokevirtual 146, 3) := dk_182 0 146 (dk_at dksX6_same_1 1 rfl rfl)
theorem dX6_same_28 : decode cX6_same 28 = .ok (.aload_n 0, 1) := dk_42 (dk_at dksX6_same_1 4 rfl rfl)
theorem dX6_same_29 : decode cX6_same 29 = .ok (.iload_n 2, 1) := dk_28 (dk_at dksX6_same_1 5 rfl rfl)
theorem dX6_same_30 : decode cX6_same 30 = .ok (.invokevirtual 146, 3) := dk_182 0 146 (dk_at dksX6_same_1 6 rfl rfl)
theorem dX6_same_33 : decode cX6_same 33 = .ok (.invokevirtual 191, 3) := dk_182 0 191 (dk_at dksX6_same_1 9 rfl rfl)
theorem dX6_same_36 : decode cX6_same 36 = .ok (.ifCond .eq 7, 3) := dk_153 0 7 (dk_at dksX6_same_1 12 rfl rfl)
theorem dX6_same_39 : decode cX6_same 39 = .ok (.iconst 1, 1) := dk_4 (dk_at dksX6_same_1 15 rfl rfl)
theorem dX6_same_40 : decode cX6_same 40 = .ok (.goto 4, 3) := dk_167 0 4 (dk_at dksX6_same_1 16 rfl rfl)
theorem dX6_same_43 : decode cX6_same 43 = .ok (.iconst 0, 1) := dk_3 (dk_at dksX6_same_1 19 rfl rfl)
theorem dX6_same_44 : decode cX6_same 44 = .ok (.ireturn, 1) := dk_172 (dk_at dksX6_same_1 20 rfl rfl)
abbrev cX6_different : ByteArray := prog_25_method_92_code
def yX6_different : MethodName := ⟨RX6, "different", "()I"⟩
def dkwX6_different_1 : List UInt8 := [4, 167, 0, 4, 3, 96, 60, 132, 2, 1, 167, 255, 226, 27, 172]
abbrev dktX6_different_1 : List UInt8 := dkwX6_different_1 ++ []
def dkwX6_different_0 : List UInt8 := [3, 60, 3, 61, 28, 42, 180, 0, 118, 162, 0, 28, 27, 42, 28, 28, 4, 96, 182, 1, 130, 154, 0, 7]
abbrev dktX6_different_0 : List UInt8 := dkwX6_different_0 ++ dktX6_different_1
theorem dksX6_different_0 : cX6_different.data.toList.drop 0 = dktX6_different_0 := by decide +kernel
theorem dksX6_different_1 : cX6_different.data.toList.drop 24 = dktX6_different_1 := dk_seg dksX6_different_0 24 rfl rfl
theorem dX6_different_0 : decode cX6_different 0 = .ok (.iconst 0, 1) := dk_3 (dk_at dksX6_different_0 0 rfl rfl)
theorem dX6_different_1 : decode cX6_different 1 = .ok (.istore_n 1, 1) := dk_60 (dk_at dksX6_different_0 1 rfl rfl)
theorem dX6_different_2 : decode cX6_different 2 = .ok (.iconst 0, 1) := dk_3 (dk_at dksX6_different_0 2 rfl rfl)
theorem dX6_different_3 : decode cX6_different 3 = .ok (.istore_n 2, 1) := dk_61 (dk_at dksX6_different_0 3 rfl rfl)
theorem dX6_different_4 : decode cX6_different 4 = .ok (.iload_n 2, 1) := dk_28 (dk_at dksX6_different_0 4 rfl rfl)
theorem dX6_different_5 : decode cX6_different 5 = .ok (.aload_n 0, 1) := dk_42 (dk_at dksX6_different_0 5 rfl rfl)
theorem dX6_different_6 : decode cX6_different 6 = .ok (.getfield 118, 3) := dk_180 0 118 (dk_at dksX6_different_0 6 rfl rfl)
theorem dX6_different_9 : decode cX6_different 9 = .ok (.if_icmp .ge 28, 3) := dk_162 0 28 (dk_at dksX6_different_0 9 rfl rfl)
theorem dX6_different_12 : decode cX6_different 12 = .ok (.iload_n 1, 1) := dk_27 (dk_at dksX6_different_0 12 rfl rfl)
theorem dX6_different_13 : decode cX6_different 13 = .ok (.aload_n 0, 1) := dk_42 (dk_at dksX6_different_0 13 rfl rfl)
theorem dX6_different_14 : decode cX6_different 14 = .ok (.iload_n 2, 1) := dk_28 (dk_at dksX6_different_0 14 rfl rfl)
theorem dX6_different_15 : decode cX6_different 15 = .ok (.iload_n 2, 1) := dk_28 (dk_at dksX6_different_0 15 rfl rfl)
theorem dX6_different_16 : decode cX6_different 16 = .ok (.iconst 1, 1) := dk_4 (dk_at dksX6_different_0 16 rfl rfl)
theorem dX6_different_17 : decode cX6_different 17 = .ok (.iadd, 1) := dk_96 (dk_at dksX6_different_0 17 rfl rfl)
theorem dX6_different_18 : decode cX6_different 18 = .ok (.invokevirtual 386, 3) := dk_182 1 130 (dk_at dksX6_different_0 18 rfl rfl)
theorem dX6_different_21 : decode cX6_different 21 = .ok (.ifCond .ne 7, 3) := dk_154 0 7 (dk_at dksX6_different_0 21 rfl rfl)
theorem dX6_different_24 : decode cX6_different 24 = .ok (.iconst 1, 1) := dk_4 (dk_at dksX6_different_1 0 rfl rfl)
theorem dX6_different_25 : decode cX6_different 25 = .ok (.goto 4, 3) := dk_167 0 4 (dk_at dksX6_different_1 1 rfl rfl)
theorem dX6_different_28 : decode cX6_different 28 = .ok (.iconst 0, 1) := dk_3 (dk_at dksX6_different_1 4 rfl rfl)
theorem dX6_different_29 : decode cX6_different 29 = .ok (.iadd, 1) := dk_96 (dk_at dksX6_different_1 5 rfl rfl)
theorem dX6_different_30 : decode cX6_different 30 = .ok (.istore_n 1, 1) := dk_60 (dk_at dksX6_different_1 6 rfl rfl)
theorem dX6_different_31 : decode cX6_different 31 = .ok (.iinc 2 1, 3) := dk_132 2 1 (dk_at dksX6_different_1 7 rfl rfl)
theorem dX6_different_34 : decode cX6_different 34 = .ok (.goto (-30), 3) := dk_167 255 226 (dk_at dksX6_different_1 10 rfl rfl)
theorem dX6_different_37 : decode cX6_different 37 = .ok (.iload_n 1, 1) := dk_27 (dk_at dksX6_different_1 13 rfl rfl)
theorem dX6_different_38 : decode cX6_different 38 = .ok (.ireturn, 1) := dk_172 (dk_at dksX6_different_1 14 rfl rfl)
abbrev cX6_alike : ByteArray := prog_25_method_91_code
def yX6_alike : MethodName := ⟨RX6, "alike", "(II)I"⟩
def dkwX6_alike_1 : List UInt8 := [153, 0, 7, 4, 167, 0, 4, 3, 96, 62, 132, 4, 1, 167, 255, 226, 29, 172]
abbrev dktX6_alike_1 : List UInt8 := dkwX6_alike_1 ++ []
def dkwX6_alike_0 : List UInt8 := [3, 62, 28, 54, 4, 21, 4, 42, 180, 0, 118, 162, 0, 27, 29, 42, 27, 21, 4, 182, 0, 191]
abbrev dktX6_alike_0 : List UInt8 := dkwX6_alike_0 ++ dktX6_alike_1
theorem dksX6_alike_0 : cX6_alike.data.toList.drop 0 = dktX6_alike_0 := by decide +kernel
theorem dksX6_alike_1 : cX6_alike.data.toList.drop 22 = dktX6_alike_1 := dk_seg dksX6_alike_0 22 rfl rfl
theorem dX6_alike_0 : decode cX6_alike 0 = .ok (.iconst 0, 1) := dk_3 (dk_at dksX6_alike_0 0 rfl rfl)
theorem dX6_alike_1 : decode cX6_alike 1 = .ok (.istore_n 3, 1) := dk_62 (dk_at dksX6_alike_0 1 rfl rfl)
theorem dX6_alike_2 : decode cX6_alike 2 = .ok (.iload_n 2, 1) := dk_28 (dk_at dksX6_alike_0 2 rfl rfl)
theorem dX6_alike_3 : decode cX6_alike 3 = .ok (.istore 4, 2) := dk_54 4 (dk_at dksX6_alike_0 3 rfl rfl)
theorem dX6_alike_5 : decode cX6_alike 5 = .ok (.iload 4, 2) := dk_21 4 (dk_at dksX6_alike_0 5 rfl rfl)
theorem dX6_alike_7 : decode cX6_alike 7 = .ok (.aload_n 0, 1) := dk_42 (dk_at dksX6_alike_0 7 rfl rfl)
theorem dX6_alike_8 : decode cX6_alike 8 = .ok (.getfield 118, 3) := dk_180 0 118 (dk_at dksX6_alike_0 8 rfl rfl)
theorem dX6_alike_11 : decode cX6_alike 11 = .ok (.if_icmp .ge 27, 3) := dk_162 0 27 (dk_at dksX6_alike_0 11 rfl rfl)
theorem dX6_alike_14 : decode cX6_alike 14 = .ok (.iload_n 3, 1) := dk_29 (dk_at dksX6_alike_0 14 rfl rfl)
theorem dX6_alike_15 : decode cX6_alike 15 = .ok (.aload_n 0, 1) := dk_42 (dk_at dksX6_alike_0 15 rfl rfl)
theorem dX6_alike_16 : decode cX6_alike 16 = .ok (.iload_n 1, 1) := dk_27 (dk_at dksX6_alike_0 16 rfl rfl)
theorem dX6_alike_17 : decode cX6_alike 17 = .ok (.iload 4, 2) := dk_21 4 (dk_at dksX6_alike_0 17 rfl rfl)
theorem dX6_alike_19 : decode cX6_alike 19 = .ok (.invokevirtual 191, 3) := dk_182 0 191 (dk_at dksX6_alike_0 19 rfl rfl)
theorem dX6_alike_22 : decode cX6_alike 22 = .ok (.ifCond .eq 7, 3) := dk_153 0 7 (dk_at dksX6_alike_1 0 rfl rfl)
theorem dX6_alike_25 : decode cX6_alike 25 = .ok (.iconst 1, 1) := dk_4 (dk_at dksX6_alike_1 3 rfl rfl)
theorem dX6_alike_26 : decode cX6_alike 26 = .ok (.goto 4, 3) := dk_167 0 4 (dk_at dksX6_alike_1 4 rfl rfl)
theorem dX6_alike_29 : decode cX6_alike 29 = .ok (.iconst 0, 1) := dk_3 (dk_at dksX6_alike_1 7 rfl rfl)
theorem dX6_alike_30 : decode cX6_alike 30 = .ok (.iadd, 1) := dk_96 (dk_at dksX6_alike_1 8 rfl rfl)
theorem dX6_alike_31 : decode cX6_alike 31 = .ok (.istore_n 3, 1) := dk_62 (dk_at dksX6_alike_1 9 rfl rfl)
theorem dX6_alike_32 : decode cX6_alike 32 = .ok (.iinc 4 1, 3) := dk_132 4 1 (dk_at dksX6_alike_1 10 rfl rfl)
theorem dX6_alike_35 : decode cX6_alike 35 = .ok (.goto (-30), 3) := dk_167 255 226 (dk_at dksX6_alike_1 13 rfl rfl)
theorem dX6_alike_38 : decode cX6_alike 38 = .ok (.iload_n 3, 1) := dk_29 (dk_at dksX6_alike_1 16 rfl rfl)
theorem dX6_alike_39 : decode cX6_alike 39 = .ok (.ireturn, 1) := dk_172 (dk_at dksX6_alike_1 17 rfl rfl)
abbrev cX6_often : ByteArray := prog_25_method_93_code
def yX6_often : MethodName := ⟨RX6, "often", "(I)I"⟩
def dkwX6_often_3 : List UInt8 := [42, 28, 3, 182, 1, 130, 172]
abbrev dktX6_often_3 : List UInt8 := dkwX6_often_3 ++ []
def dkwX6_often_2 : List UInt8 := [167, 0, 4, 28, 61, 132, 3, 1, 167, 255, 224, 27, 154, 0, 12, 42, 180, 0, 25, 28, 46, 167, 0, 9]
abbrev dktX6_often_2 : List UInt8 := dkwX6_often_2 ++ dktX6_often_3
def dkwX6_often_1 : List UInt8 := [180, 0, 118, 162, 0, 30, 42, 29, 3, 182, 1, 130, 42, 28, 3, 182, 1, 130, 164, 0, 7, 29]
abbrev dktX6_often_1 : List UInt8 := dkwX6_often_1 ++ dktX6_often_2
def dkwX6_often_0 : List UInt8 := [27, 3, 4, 184, 0, 213, 154, 0, 10, 42, 16, 254, 182, 0, 253, 172, 3, 61, 4, 62, 29, 42]
abbrev dktX6_often_0 : List UInt8 := dkwX6_often_0 ++ dktX6_often_1
theorem dksX6_often_0 : cX6_often.data.toList.drop 0 = dktX6_often_0 := by decide +kernel
theorem dksX6_often_1 : cX6_often.data.toList.drop 22 = dktX6_often_1 := dk_seg dksX6_often_0 22 rfl rfl
theorem dksX6_often_2 : cX6_often.data.toList.drop 44 = dktX6_often_2 := dk_seg dksX6_often_1 22 rfl rfl
theorem dksX6_often_3 : cX6_often.data.toList.drop 68 = dktX6_often_3 := dk_seg dksX6_often_2 24 rfl rfl
theorem dX6_often_0 : decode cX6_often 0 = .ok (.iload_n 1, 1) := dk_27 (dk_at dksX6_often_0 0 rfl rfl)
theorem dX6_often_1 : decode cX6_often 1 = .ok (.iconst 0, 1) := dk_3 (dk_at dksX6_often_0 1 rfl rfl)
theorem dX6_often_2 : decode cX6_often 2 = .ok (.iconst 1, 1) := dk_4 (dk_at dksX6_often_0 2 rfl rfl)
theorem dX6_often_3 : decode cX6_often 3 = .ok (.invokestatic 213, 3) := dk_184 0 213 (dk_at dksX6_often_0 3 rfl rfl)
theorem dX6_often_6 : decode cX6_often 6 = .ok (.ifCond .ne 10, 3) := dk_154 0 10 (dk_at dksX6_often_0 6 rfl rfl)
theorem dX6_often_9 : decode cX6_often 9 = .ok (.aload_n 0, 1) := dk_42 (dk_at dksX6_often_0 9 rfl rfl)
theorem dX6_often_10 : decode cX6_often 10 = .ok (.bipush (-2), 2) := dk_16 254 (dk_at dksX6_often_0 10 rfl rfl)
theorem dX6_often_12 : decode cX6_often 12 = .ok (.invokevirtual 253, 3) := dk_182 0 253 (dk_at dksX6_often_0 12 rfl rfl)
theorem dX6_often_15 : decode cX6_often 15 = .ok (.ireturn, 1) := dk_172 (dk_at dksX6_often_0 15 rfl rfl)
theorem dX6_often_16 : decode cX6_often 16 = .ok (.iconst 0, 1) := dk_3 (dk_at dksX6_often_0 16 rfl rfl)
theorem dX6_often_17 : decode cX6_often 17 = .ok (.istore_n 2, 1) := dk_61 (dk_at dksX6_often_0 17 rfl rfl)
theorem dX6_often_18 : decode cX6_often 18 = .ok (.iconst 1, 1) := dk_4 (dk_at dksX6_often_0 18 rfl rfl)
theorem dX6_often_19 : decode cX6_often 19 = .ok (.istore_n 3, 1) := dk_62 (dk_at dksX6_often_0 19 rfl rfl)
theorem dX6_often_20 : decode cX6_often 20 = .ok (.iload_n 3, 1) := dk_29 (dk_at dksX6_often_0 20 rfl rfl)
theorem dX6_often_21 : decode cX6_often 21 = .ok (.aload_n 0, 1) := dk_42 (dk_at dksX6_often_0 21 rfl rfl)
theorem dX6_often_22 : decode cX6_often 22 = .ok (.getfield 118, 3) := dk_180 0 118 (dk_at dksX6_often_1 0 rfl rfl)
theorem dX6_often_25 : decode cX6_often 25 = .ok (.if_icmp .ge 30, 3) := dk_162 0 30 (dk_at dksX6_often_1 3 rfl rfl)
theorem dX6_often_28 : decode cX6_often 28 = .ok (.aload_n 0, 1) := dk_42 (dk_at dksX6_often_1 6 rfl rfl)
theorem dX6_often_29 : decode cX6_often 29 = .ok (.iload_n 3, 1) := dk_29 (dk_at dksX6_often_1 7 rfl rfl)
theorem dX6_often_30 : decode cX6_often 30 = .ok (.iconst 0, 1) := dk_3 (dk_at dksX6_often_1 8 rfl rfl)
theorem dX6_often_31 : decode cX6_often 31 = .ok (.invokevirtual 386, 3) := dk_182 1 130 (dk_at dksX6_often_1 9 rfl rfl)
theorem dX6_often_34 : decode cX6_often 34 = .ok (.aload_n 0, 1) := dk_42 (dk_at dksX6_often_1 12 rfl rfl)
theorem dX6_often_35 : decode cX6_often 35 = .ok (.iload_n 2, 1) := dk_28 (dk_at dksX6_often_1 13 rfl rfl)
theorem dX6_often_36 : decode cX6_often 36 = .ok (.iconst 0, 1) := dk_3 (dk_at dksX6_often_1 14 rfl rfl)
theorem dX6_often_37 : decode cX6_often 37 = .ok (.invokevirtual 386, 3) := dk_182 1 130 (dk_at dksX6_often_1 15 rfl rfl)
theorem dX6_often_40 : decode cX6_often 40 = .ok (.if_icmp .le 7, 3) := dk_164 0 7 (dk_at dksX6_often_1 18 rfl rfl)
theorem dX6_often_43 : decode cX6_often 43 = .ok (.iload_n 3, 1) := dk_29 (dk_at dksX6_often_1 21 rfl rfl)
theorem dX6_often_44 : decode cX6_often 44 = .ok (.goto 4, 3) := dk_167 0 4 (dk_at dksX6_often_2 0 rfl rfl)
theorem dX6_often_47 : decode cX6_often 47 = .ok (.iload_n 2, 1) := dk_28 (dk_at dksX6_often_2 3 rfl rfl)
theorem dX6_often_48 : decode cX6_often 48 = .ok (.istore_n 2, 1) := dk_61 (dk_at dksX6_often_2 4 rfl rfl)
theorem dX6_often_49 : decode cX6_often 49 = .ok (.iinc 3 1, 3) := dk_132 3 1 (dk_at dksX6_often_2 5 rfl rfl)
theorem dX6_often_52 : decode cX6_often 52 = .ok (.goto (-32), 3) := dk_167 255 224 (dk_at dksX6_often_2 8 rfl rfl)
theorem dX6_often_55 : decode cX6_often 55 = .ok (.iload_n 1, 1) := dk_27 (dk_at dksX6_often_2 11 rfl rfl)
theorem dX6_often_56 : decode cX6_often 56 = .ok (.ifCond .ne 12, 3) := dk_154 0 12 (dk_at dksX6_often_2 12 rfl rfl)
theorem dX6_often_59 : decode cX6_often 59 = .ok (.aload_n 0, 1) := dk_42 (dk_at dksX6_often_2 15 rfl rfl)
theorem dX6_often_60 : decode cX6_often 60 = .ok (.getfield 25, 3) := dk_180 0 25 (dk_at dksX6_often_2 16 rfl rfl)
theorem dX6_often_63 : decode cX6_often 63 = .ok (.iload_n 2, 1) := dk_28 (dk_at dksX6_often_2 19 rfl rfl)
theorem dX6_often_64 : decode cX6_often 64 = .ok (.iaload, 1) := dk_46 (dk_at dksX6_often_2 20 rfl rfl)
theorem dX6_often_65 : decode cX6_often 65 = .ok (.goto 9, 3) := dk_167 0 9 (dk_at dksX6_often_2 21 rfl rfl)
theorem dX6_often_68 : decode cX6_often 68 = .ok (.aload_n 0, 1) := dk_42 (dk_at dksX6_often_3 0 rfl rfl)
theorem dX6_often_69 : decode cX6_often 69 = .ok (.iload_n 2, 1) := dk_28 (dk_at dksX6_often_3 1 rfl rfl)
theorem dX6_often_70 : decode cX6_often 70 = .ok (.iconst 0, 1) := dk_3 (dk_at dksX6_often_3 2 rfl rfl)
theorem dX6_often_71 : decode cX6_often 71 = .ok (.invokevirtual 386, 3) := dk_182 1 130 (dk_at dksX6_often_3 3 rfl rfl)
theorem dX6_often_74 : decode cX6_often 74 = .ok (.ireturn, 1) := dk_172 (dk_at dksX6_often_3 6 rfl rfl)
abbrev cX6_without : ByteArray := prog_25_method_94_code
def yX6_without : MethodName := ⟨RX6, "without", "(I)I"⟩
def dkwX6_without_2 : List UInt8 := [54, 4, 42, 182, 1, 139, 21, 4, 172]
abbrev dktX6_without_2 : List UInt8 := dkwX6_without_2 ++ []
def dkwX6_without_1 : List UInt8 := [62, 29, 153, 0, 9, 42, 29, 182, 0, 253, 172, 42, 182, 1, 133, 42, 28, 182, 1, 136, 42, 182, 1, 120]
abbrev dktX6_without_1 : List UInt8 := dkwX6_without_1 ++ dktX6_without_2
def dkwX6_without_0 : List UInt8 := [42, 27, 182, 0, 146, 61, 28, 156, 0, 7, 2, 167, 0, 13, 28, 154, 0, 8, 16, 253, 167, 0, 4, 3]
abbrev dktX6_without_0 : List UInt8 := dkwX6_without_0 ++ dktX6_without_1
theorem dksX6_without_0 : cX6_without.data.toList.drop 0 = dktX6_without_0 := by decide +kernel
theorem dksX6_without_1 : cX6_without.data.toList.drop 24 = dktX6_without_1 := dk_seg dksX6_without_0 24 rfl rfl
theorem dksX6_without_2 : cX6_without.data.toList.drop 48 = dktX6_without_2 := dk_seg dksX6_without_1 24 rfl rfl
theorem dX6_without_0 : decode cX6_without 0 = .ok (.aload_n 0, 1) := dk_42 (dk_at dksX6_without_0 0 rfl rfl)
theorem dX6_without_1 : decode cX6_without 1 = .ok (.iload_n 1, 1) := dk_27 (dk_at dksX6_without_0 1 rfl rfl)
theorem dX6_without_2 : decode cX6_without 2 = .ok (.invokevirtual 146, 3) := dk_182 0 146 (dk_at dksX6_without_0 2 rfl rfl)
theorem dX6_without_5 : decode cX6_without 5 = .ok (.istore_n 2, 1) := dk_61 (dk_at dksX6_without_0 5 rfl rfl)
theorem dX6_without_6 : decode cX6_without 6 = .ok (.iload_n 2, 1) := dk_28 (dk_at dksX6_without_0 6 rfl rfl)
theorem dX6_without_7 : decode cX6_without 7 = .ok (.ifCond .ge 7, 3) := dk_156 0 7 (dk_at dksX6_without_0 7 rfl rfl)
theorem dX6_without_10 : decode cX6_without 10 = .ok (.iconst (-1), 1) := dk_2 (dk_at dksX6_without_0 10 rfl rfl)
theorem dX6_without_11 : decode cX6_without 11 = .ok (.goto 13, 3) := dk_167 0 13 (dk_at dksX6_without_0 11 rfl rfl)
theorem dX6_without_14 : decode cX6_without 14 = .ok (.iload_n 2, 1) := dk_28 (dk_at dksX6_without_0 14 rfl rfl)
theorem dX6_without_15 : decode cX6_without 15 = .ok (.ifCond .ne 8, 3) := dk_154 0 8 (dk_at dksX6_without_0 15 rfl rfl)
theorem dX6_without_18 : decode cX6_without 18 = .ok (.bipush (-3), 2) := dk_16 253 (dk_at dksX6_without_0 18 rfl rfl)
theorem dX6_without_20 : decode cX6_without 20 = .ok (.goto 4, 3) := dk_167 0 4 (dk_at dksX6_without_0 20 rfl rfl)
theorem dX6_without_23 : decode cX6_without 23 = .ok (.iconst 0, 1) := dk_3 (dk_at dksX6_without_0 23 rfl rfl)
theorem dX6_without_24 : decode cX6_without 24 = .ok (.istore_n 3, 1) := dk_62 (dk_at dksX6_without_1 0 rfl rfl)
theorem dX6_without_25 : decode cX6_without 25 = .ok (.iload_n 3, 1) := dk_29 (dk_at dksX6_without_1 1 rfl rfl)
theorem dX6_without_26 : decode cX6_without 26 = .ok (.ifCond .eq 9, 3) := dk_153 0 9 (dk_at dksX6_without_1 2 rfl rfl)
theorem dX6_without_29 : decode cX6_without 29 = .ok (.aload_n 0, 1) := dk_42 (dk_at dksX6_without_1 5 rfl rfl)
theorem dX6_without_30 : decode cX6_without 30 = .ok (.iload_n 3, 1) := dk_29 (dk_at dksX6_without_1 6 rfl rfl)
theorem dX6_without_31 : decode cX6_without 31 = .ok (.invokevirtual 253, 3) := dk_182 0 253 (dk_at dksX6_without_1 7 rfl rfl)
theorem dX6_without_34 : decode cX6_without 34 = .ok (.ireturn, 1) := dk_172 (dk_at dksX6_without_1 10 rfl rfl)
theorem dX6_without_35 : decode cX6_without 35 = .ok (.aload_n 0, 1) := dk_42 (dk_at dksX6_without_1 11 rfl rfl)
theorem dX6_without_36 : decode cX6_without 36 = .ok (.invokevirtual 389, 3) := dk_182 1 133 (dk_at dksX6_without_1 12 rfl rfl)
theorem dX6_without_39 : decode cX6_without 39 = .ok (.aload_n 0, 1) := dk_42 (dk_at dksX6_without_1 15 rfl rfl)
theorem dX6_without_40 : decode cX6_without 40 = .ok (.iload_n 2, 1) := dk_28 (dk_at dksX6_without_1 16 rfl rfl)
theorem dX6_without_41 : decode cX6_without 41 = .ok (.invokevirtual 392, 3) := dk_182 1 136 (dk_at dksX6_without_1 17 rfl rfl)
theorem dX6_without_44 : decode cX6_without 44 = .ok (.aload_n 0, 1) := dk_42 (dk_at dksX6_without_1 20 rfl rfl)
theorem dX6_without_45 : decode cX6_without 45 = .ok (.invokevirtual 376, 3) := dk_182 1 120 (dk_at dksX6_without_1 21 rfl rfl)
theorem dX6_without_48 : decode cX6_without 48 = .ok (.istore 4, 2) := dk_54 4 (dk_at dksX6_without_2 0 rfl rfl)
theorem dX6_without_50 : decode cX6_without 50 = .ok (.aload_n 0, 1) := dk_42 (dk_at dksX6_without_2 2 rfl rfl)
theorem dX6_without_51 : decode cX6_without 51 = .ok (.invokevirtual 395, 3) := dk_182 1 139 (dk_at dksX6_without_2 3 rfl rfl)
theorem dX6_without_54 : decode cX6_without 54 = .ok (.iload 4, 2) := dk_21 4 (dk_at dksX6_without_2 6 rfl rfl)
theorem dX6_without_56 : decode cX6_without 56 = .ok (.ireturn, 1) := dk_172 (dk_at dksX6_without_2 8 rfl rfl)
abbrev cX6_minds : ByteArray := prog_25_method_71_code
def yX6_minds : MethodName := ⟨RX6, "minds", "()V"⟩
def dkwX6_minds_0 : List UInt8 := [42, 5, 4, 182, 1, 54, 177]
abbrev dktX6_minds_0 : List UInt8 := dkwX6_minds_0 ++ []
theorem dksX6_minds_0 : cX6_minds.data.toList.drop 0 = dktX6_minds_0 := by decide +kernel
theorem dX6_minds_0 : decode cX6_minds 0 = .ok (.aload_n 0, 1) := dk_42 (dk_at dksX6_minds_0 0 rfl rfl)
theorem dX6_minds_1 : decode cX6_minds 1 = .ok (.iconst 2, 1) := dk_5 (dk_at dksX6_minds_0 1 rfl rfl)
theorem dX6_minds_2 : decode cX6_minds 2 = .ok (.iconst 1, 1) := dk_4 (dk_at dksX6_minds_0 2 rfl rfl)
theorem dX6_minds_3 : decode cX6_minds 3 = .ok (.invokevirtual 310, 3) := dk_182 1 54 (dk_at dksX6_minds_0 3 rfl rfl)
theorem dX6_minds_6 : decode cX6_minds 6 = .ok (.return_, 1) := dk_177 (dk_at dksX6_minds_0 6 rfl rfl)
abbrev cX6_leavesOut : ByteArray := prog_25_method_15_code
def yX6_leavesOut : MethodName := ⟨RX6, "leavesOut", "(I)V"⟩
def dkwX6_leavesOut_1 : List UInt8 := [42, 180, 0, 22, 27, 46, 182, 0, 142, 42, 182, 0, 125, 177]
abbrev dktX6_leavesOut_1 : List UInt8 := dkwX6_leavesOut_1 ++ []
def dkwX6_leavesOut_0 : List UInt8 := [42, 180, 0, 16, 42, 42, 180, 0, 25, 27, 46, 16, 10, 108, 182, 0, 146, 92, 46, 4, 100, 79, 42, 27]
abbrev dktX6_leavesOut_0 : List UInt8 := dkwX6_leavesOut_0 ++ dktX6_leavesOut_1
theorem dksX6_leavesOut_0 : cX6_leavesOut.data.toList.drop 0 = dktX6_leavesOut_0 := by decide +kernel
theorem dksX6_leavesOut_1 : cX6_leavesOut.data.toList.drop 24 = dktX6_leavesOut_1 := dk_seg dksX6_leavesOut_0 24 rfl rfl
theorem dX6_leavesOut_0 : decode cX6_leavesOut 0 = .ok (.aload_n 0, 1) := dk_42 (dk_at dksX6_leavesOut_0 0 rfl rfl)
theorem dX6_leavesOut_1 : decode cX6_leavesOut 1 = .ok (.getfield 16, 3) := dk_180 0 16 (dk_at dksX6_leavesOut_0 1 rfl rfl)
theorem dX6_leavesOut_4 : decode cX6_leavesOut 4 = .ok (.aload_n 0, 1) := dk_42 (dk_at dksX6_leavesOut_0 4 rfl rfl)
theorem dX6_leavesOut_5 : decode cX6_leavesOut 5 = .ok (.aload_n 0, 1) := dk_42 (dk_at dksX6_leavesOut_0 5 rfl rfl)
theorem dX6_leavesOut_6 : decode cX6_leavesOut 6 = .ok (.getfield 25, 3) := dk_180 0 25 (dk_at dksX6_leavesOut_0 6 rfl rfl)
theorem dX6_leavesOut_9 : decode cX6_leavesOut 9 = .ok (.iload_n 1, 1) := dk_27 (dk_at dksX6_leavesOut_0 9 rfl rfl)
theorem dX6_leavesOut_10 : decode cX6_leavesOut 10 = .ok (.iaload, 1) := dk_46 (dk_at dksX6_leavesOut_0 10 rfl rfl)
theorem dX6_leavesOut_11 : decode cX6_leavesOut 11 = .ok (.bipush 10, 2) := dk_16 10 (dk_at dksX6_leavesOut_0 11 rfl rfl)
theorem dX6_leavesOut_13 : decode cX6_leavesOut 13 = .ok (.idiv, 1) := dk_108 (dk_at dksX6_leavesOut_0 13 rfl rfl)
theorem dX6_leavesOut_14 : decode cX6_leavesOut 14 = .ok (.invokevirtual 146, 3) := dk_182 0 146 (dk_at dksX6_leavesOut_0 14 rfl rfl)
theorem dX6_leavesOut_17 : decode cX6_leavesOut 17 = .ok (.dup2, 1) := dk_92 (dk_at dksX6_leavesOut_0 17 rfl rfl)
theorem dX6_leavesOut_18 : decode cX6_leavesOut 18 = .ok (.iaload, 1) := dk_46 (dk_at dksX6_leavesOut_0 18 rfl rfl)
theorem dX6_leavesOut_19 : decode cX6_leavesOut 19 = .ok (.iconst 1, 1) := dk_4 (dk_at dksX6_leavesOut_0 19 rfl rfl)
theorem dX6_leavesOut_20 : decode cX6_leavesOut 20 = .ok (.isub, 1) := dk_100 (dk_at dksX6_leavesOut_0 20 rfl rfl)
theorem dX6_leavesOut_21 : decode cX6_leavesOut 21 = .ok (.iastore, 1) := dk_79 (dk_at dksX6_leavesOut_0 21 rfl rfl)
theorem dX6_leavesOut_22 : decode cX6_leavesOut 22 = .ok (.aload_n 0, 1) := dk_42 (dk_at dksX6_leavesOut_0 22 rfl rfl)
theorem dX6_leavesOut_23 : decode cX6_leavesOut 23 = .ok (.iload_n 1, 1) := dk_27 (dk_at dksX6_leavesOut_0 23 rfl rfl)
theorem dX6_leavesOut_24 : decode cX6_leavesOut 24 = .ok (.aload_n 0, 1) := dk_42 (dk_at dksX6_leavesOut_1 0 rfl rfl)
theorem dX6_leavesOut_25 : decode cX6_leavesOut 25 = .ok (.getfield 22, 3) := dk_180 0 22 (dk_at dksX6_leavesOut_1 1 rfl rfl)
theorem dX6_leavesOut_28 : decode cX6_leavesOut 28 = .ok (.iload_n 1, 1) := dk_27 (dk_at dksX6_leavesOut_1 4 rfl rfl)
theorem dX6_leavesOut_29 : decode cX6_leavesOut 29 = .ok (.iaload, 1) := dk_46 (dk_at dksX6_leavesOut_1 5 rfl rfl)
theorem dX6_leavesOut_30 : decode cX6_leavesOut 30 = .ok (.invokevirtual 142, 3) := dk_182 0 142 (dk_at dksX6_leavesOut_1 6 rfl rfl)
theorem dX6_leavesOut_33 : decode cX6_leavesOut 33 = .ok (.aload_n 0, 1) := dk_42 (dk_at dksX6_leavesOut_1 9 rfl rfl)
theorem dX6_leavesOut_34 : decode cX6_leavesOut 34 = .ok (.invokevirtual 125, 3) := dk_182 0 125 (dk_at dksX6_leavesOut_1 10 rfl rfl)
theorem dX6_leavesOut_37 : decode cX6_leavesOut 37 = .ok (.return_, 1) := dk_177 (dk_at dksX6_leavesOut_1 13 rfl rfl)
abbrev cX6_forgets : ByteArray := prog_25_method_72_code
def yX6_forgets : MethodName := ⟨RX6, "forgets", "()V"⟩
def dkwX6_forgets_0 : List UInt8 := [42, 5, 3, 182, 1, 54, 177]
abbrev dktX6_forgets_0 : List UInt8 := dkwX6_forgets_0 ++ []
theorem dksX6_forgets_0 : cX6_forgets.data.toList.drop 0 = dktX6_forgets_0 := by decide +kernel
theorem dX6_forgets_0 : decode cX6_forgets 0 = .ok (.aload_n 0, 1) := dk_42 (dk_at dksX6_forgets_0 0 rfl rfl)
theorem dX6_forgets_1 : decode cX6_forgets 1 = .ok (.iconst 2, 1) := dk_5 (dk_at dksX6_forgets_0 1 rfl rfl)
theorem dX6_forgets_2 : decode cX6_forgets 2 = .ok (.iconst 0, 1) := dk_3 (dk_at dksX6_forgets_0 2 rfl rfl)
theorem dX6_forgets_3 : decode cX6_forgets 3 = .ok (.invokevirtual 310, 3) := dk_182 1 54 (dk_at dksX6_forgets_0 3 rfl rfl)
theorem dX6_forgets_6 : decode cX6_forgets 6 = .ok (.return_, 1) := dk_177 (dk_at dksX6_forgets_0 6 rfl rfl)
abbrev cX6_mend : ByteArray := prog_25_method_96_code
def yX6_mend : MethodName := ⟨RX6, "mend", "(I)I"⟩
def dkwX6_mend_4 : List UInt8 := [156, 0, 8, 16, 247, 167, 0, 12, 27, 154, 0, 7, 28, 167, 0, 4, 29, 172]
abbrev dktX6_mend_4 : List UInt8 := dkwX6_mend_4 ++ []
def dkwX6_mend_3 : List UInt8 := [21, 4, 46, 104, 21, 5, 96, 61, 21, 6, 62, 132, 5, 1, 167, 255, 210, 132, 4, 1, 167, 255, 192, 28]
abbrev dktX6_mend_3 : List UInt8 := dkwX6_mend_3 ++ dktX6_mend_4
def dkwX6_mend_2 : List UInt8 := [21, 4, 21, 5, 182, 1, 142, 54, 6, 21, 6, 29, 161, 0, 6, 167, 0, 20, 16, 100, 42, 180, 0, 25]
abbrev dktX6_mend_2 : List UInt8 := dkwX6_mend_2 ++ dktX6_mend_3
def dkwX6_mend_1 : List UInt8 := [3, 54, 4, 21, 4, 42, 180, 0, 118, 162, 0, 61, 3, 54, 5, 21, 5, 16, 20, 163, 0, 45, 42]
abbrev dktX6_mend_1 : List UInt8 := dkwX6_mend_1 ++ dktX6_mend_2
def dkwX6_mend_0 : List UInt8 := [27, 3, 4, 184, 0, 213, 154, 0, 10, 42, 16, 254, 182, 0, 253, 172, 16, 247, 61, 42, 182, 1, 120, 62]
abbrev dktX6_mend_0 : List UInt8 := dkwX6_mend_0 ++ dktX6_mend_1
theorem dksX6_mend_0 : cX6_mend.data.toList.drop 0 = dktX6_mend_0 := by decide +kernel
theorem dksX6_mend_1 : cX6_mend.data.toList.drop 24 = dktX6_mend_1 := dk_seg dksX6_mend_0 24 rfl rfl
theorem dksX6_mend_2 : cX6_mend.data.toList.drop 47 = dktX6_mend_2 := dk_seg dksX6_mend_1 23 rfl rfl
theorem dksX6_mend_3 : cX6_mend.data.toList.drop 71 = dktX6_mend_3 := dk_seg dksX6_mend_2 24 rfl rfl
theorem dksX6_mend_4 : cX6_mend.data.toList.drop 95 = dktX6_mend_4 := dk_seg dksX6_mend_3 24 rfl rfl
theorem dX6_mend_0 : decode cX6_mend 0 = .ok (.iload_n 1, 1) := dk_27 (dk_at dksX6_mend_0 0 rfl rfl)
theorem dX6_mend_1 : decode cX6_mend 1 = .ok (.iconst 0, 1) := dk_3 (dk_at dksX6_mend_0 1 rfl rfl)
theorem dX6_mend_2 : decode cX6_mend 2 = .ok (.iconst 1, 1) := dk_4 (dk_at dksX6_mend_0 2 rfl rfl)
theorem dX6_mend_3 : decode cX6_mend 3 = .ok (.invokestatic 213, 3) := dk_184 0 213 (dk_at dksX6_mend_0 3 rfl rfl)
theorem dX6_mend_6 : decode cX6_mend 6 = .ok (.ifCond .ne 10, 3) := dk_154 0 10 (dk_at dksX6_mend_0 6 rfl rfl)
theorem dX6_mend_9 : decode cX6_mend 9 = .ok (.aload_n 0, 1) := dk_42 (dk_at dksX6_mend_0 9 rfl rfl)
theorem dX6_mend_10 : decode cX6_mend 10 = .ok (.bipush (-2), 2) := dk_16 254 (dk_at dksX6_mend_0 10 rfl rfl)
theorem dX6_mend_12 : decode cX6_mend 12 = .ok (.invokevirtual 253, 3) := dk_182 0 253 (dk_at dksX6_mend_0 12 rfl rfl)
theorem dX6_mend_15 : decode cX6_mend 15 = .ok (.ireturn, 1) := dk_172 (dk_at dksX6_mend_0 15 rfl rfl)
theorem dX6_mend_16 : decode cX6_mend 16 = .ok (.bipush (-9), 2) := dk_16 247 (dk_at dksX6_mend_0 16 rfl rfl)
theorem dX6_mend_18 : decode cX6_mend 18 = .ok (.istore_n 2, 1) := dk_61 (dk_at dksX6_mend_0 18 rfl rfl)
theorem dX6_mend_19 : decode cX6_mend 19 = .ok (.aload_n 0, 1) := dk_42 (dk_at dksX6_mend_0 19 rfl rfl)
theorem dX6_mend_20 : decode cX6_mend 20 = .ok (.invokevirtual 376, 3) := dk_182 1 120 (dk_at dksX6_mend_0 20 rfl rfl)
theorem dX6_mend_23 : decode cX6_mend 23 = .ok (.istore_n 3, 1) := dk_62 (dk_at dksX6_mend_0 23 rfl rfl)
theorem dX6_mend_24 : decode cX6_mend 24 = .ok (.iconst 0, 1) := dk_3 (dk_at dksX6_mend_1 0 rfl rfl)
theorem dX6_mend_25 : decode cX6_mend 25 = .ok (.istore 4, 2) := dk_54 4 (dk_at dksX6_mend_1 1 rfl rfl)
theorem dX6_mend_27 : decode cX6_mend 27 = .ok (.iload 4, 2) := dk_21 4 (dk_at dksX6_mend_1 3 rfl rfl)
theorem dX6_mend_29 : decode cX6_mend 29 = .ok (.aload_n 0, 1) := dk_42 (dk_at dksX6_mend_1 5 rfl rfl)
theorem dX6_mend_30 : decode cX6_mend 30 = .ok (.getfield 118, 3) := dk_180 0 118 (dk_at dksX6_mend_1 6 rfl rfl)
theorem dX6_mend_33 : decode cX6_mend 33 = .ok (.if_icmp .ge 61, 3) := dk_162 0 61 (dk_at dksX6_mend_1 9 rfl rfl)
theorem dX6_mend_36 : decode cX6_mend 36 = .ok (.iconst 0, 1) := dk_3 (dk_at dksX6_mend_1 12 rfl rfl)
theorem dX6_mend_37 : decode cX6_mend 37 = .ok (.istore 5, 2) := dk_54 5 (dk_at dksX6_mend_1 13 rfl rfl)
theorem dX6_mend_39 : decode cX6_mend 39 = .ok (.iload 5, 2) := dk_21 5 (dk_at dksX6_mend_1 15 rfl rfl)
theorem dX6_mend_41 : decode cX6_mend 41 = .ok (.bipush 20, 2) := dk_16 20 (dk_at dksX6_mend_1 17 rfl rfl)
theorem dX6_mend_43 : decode cX6_mend 43 = .ok (.if_icmp .gt 45, 3) := dk_163 0 45 (dk_at dksX6_mend_1 19 rfl rfl)
theorem dX6_mend_46 : decode cX6_mend 46 = .ok (.aload_n 0, 1) := dk_42 (dk_at dksX6_mend_1 22 rfl rfl)
theorem dX6_mend_47 : decode cX6_mend 47 = .ok (.iload 4, 2) := dk_21 4 (dk_at dksX6_mend_2 0 rfl rfl)
theorem dX6_mend_49 : decode cX6_mend 49 = .ok (.iload 5, 2) := dk_21 5 (dk_at dksX6_mend_2 2 rfl rfl)
theorem dX6_mend_51 : decode cX6_mend 51 = .ok (.invokevirtual 398, 3) := dk_182 1 142 (dk_at dksX6_mend_2 4 rfl rfl)
theorem dX6_mend_54 : decode cX6_mend 54 = .ok (.istore 6, 2) := dk_54 6 (dk_at dksX6_mend_2 7 rfl rfl)
theorem dX6_mend_56 : decode cX6_mend 56 = .ok (.iload 6, 2) := dk_21 6 (dk_at dksX6_mend_2 9 rfl rfl)
theorem dX6_mend_58 : decode cX6_mend 58 = .ok (.iload_n 3, 1) := dk_29 (dk_at dksX6_mend_2 11 rfl rfl)
theorem dX6_mend_59 : decode cX6_mend 59 = .ok (.if_icmp .lt 6, 3) := dk_161 0 6 (dk_at dksX6_mend_2 12 rfl rfl)
theorem dX6_mend_62 : decode cX6_mend 62 = .ok (.goto 20, 3) := dk_167 0 20 (dk_at dksX6_mend_2 15 rfl rfl)
theorem dX6_mend_65 : decode cX6_mend 65 = .ok (.bipush 100, 2) := dk_16 100 (dk_at dksX6_mend_2 18 rfl rfl)
theorem dX6_mend_67 : decode cX6_mend 67 = .ok (.aload_n 0, 1) := dk_42 (dk_at dksX6_mend_2 20 rfl rfl)
theorem dX6_mend_68 : decode cX6_mend 68 = .ok (.getfield 25, 3) := dk_180 0 25 (dk_at dksX6_mend_2 21 rfl rfl)
theorem dX6_mend_71 : decode cX6_mend 71 = .ok (.iload 4, 2) := dk_21 4 (dk_at dksX6_mend_3 0 rfl rfl)
theorem dX6_mend_73 : decode cX6_mend 73 = .ok (.iaload, 1) := dk_46 (dk_at dksX6_mend_3 2 rfl rfl)
theorem dX6_mend_74 : decode cX6_mend 74 = .ok (.imul, 1) := dk_104 (dk_at dksX6_mend_3 3 rfl rfl)
theorem dX6_mend_75 : decode cX6_mend 75 = .ok (.iload 5, 2) := dk_21 5 (dk_at dksX6_mend_3 4 rfl rfl)
theorem dX6_mend_77 : decode cX6_mend 77 = .ok (.iadd, 1) := dk_96 (dk_at dksX6_mend_3 6 rfl rfl)
theorem dX6_mend_78 : decode cX6_mend 78 = .ok (.istore_n 2, 1) := dk_61 (dk_at dksX6_mend_3 7 rfl rfl)
theorem dX6_mend_79 : decode cX6_mend 79 = .ok (.iload 6, 2) := dk_21 6 (dk_at dksX6_mend_3 8 rfl rfl)
theorem dX6_mend_81 : decode cX6_mend 81 = .ok (.istore_n 3, 1) := dk_62 (dk_at dksX6_mend_3 10 rfl rfl)
theorem dX6_mend_82 : decode cX6_mend 82 = .ok (.iinc 5 1, 3) := dk_132 5 1 (dk_at dksX6_mend_3 11 rfl rfl)
theorem dX6_mend_85 : decode cX6_mend 85 = .ok (.goto (-46), 3) := dk_167 255 210 (dk_at dksX6_mend_3 14 rfl rfl)
theorem dX6_mend_88 : decode cX6_mend 88 = .ok (.iinc 4 1, 3) := dk_132 4 1 (dk_at dksX6_mend_3 17 rfl rfl)
theorem dX6_mend_91 : decode cX6_mend 91 = .ok (.goto (-64), 3) := dk_167 255 192 (dk_at dksX6_mend_3 20 rfl rfl)
theorem dX6_mend_94 : decode cX6_mend 94 = .ok (.iload_n 2, 1) := dk_28 (dk_at dksX6_mend_3 23 rfl rfl)
theorem dX6_mend_95 : decode cX6_mend 95 = .ok (.ifCond .ge 8, 3) := dk_156 0 8 (dk_at dksX6_mend_4 0 rfl rfl)
theorem dX6_mend_98 : decode cX6_mend 98 = .ok (.bipush (-9), 2) := dk_16 247 (dk_at dksX6_mend_4 3 rfl rfl)
theorem dX6_mend_100 : decode cX6_mend 100 = .ok (.goto 12, 3) := dk_167 0 12 (dk_at dksX6_mend_4 5 rfl rfl)
theorem dX6_mend_103 : decode cX6_mend 103 = .ok (.iload_n 1, 1) := dk_27 (dk_at dksX6_mend_4 8 rfl rfl)
theorem dX6_mend_104 : decode cX6_mend 104 = .ok (.ifCond .ne 7, 3) := dk_154 0 7 (dk_at dksX6_mend_4 9 rfl rfl)
theorem dX6_mend_107 : decode cX6_mend 107 = .ok (.iload_n 2, 1) := dk_28 (dk_at dksX6_mend_4 12 rfl rfl)
theorem dX6_mend_108 : decode cX6_mend 108 = .ok (.goto 4, 3) := dk_167 0 4 (dk_at dksX6_mend_4 13 rfl rfl)
theorem dX6_mend_111 : decode cX6_mend 111 = .ok (.iload_n 3, 1) := dk_29 (dk_at dksX6_mend_4 16 rfl rfl)
theorem dX6_mend_112 : decode cX6_mend 112 = .ok (.ireturn, 1) := dk_172 (dk_at dksX6_mend_4 17 rfl rfl)
abbrev cX6_faultsWith : ByteArray := prog_25_method_95_code
def yX6_faultsWith : MethodName := ⟨RX6, "faultsWith", "(II)I"⟩
def dkwX6_faultsWith_0 : List UInt8 := [42, 182, 1, 133, 42, 27, 3, 28, 182, 1, 114, 42, 182, 1, 120, 62, 42, 182, 1, 139, 29, 172]
abbrev dktX6_faultsWith_0 : List UInt8 := dkwX6_faultsWith_0 ++ []
theorem dksX6_faultsWith_0 : cX6_faultsWith.data.toList.drop 0 = dktX6_faultsWith_0 := by decide +kernel
theorem dX6_faultsWith_0 : decode cX6_faultsWith 0 = .ok (.aload_n 0, 1) := dk_42 (dk_at dksX6_faultsWith_0 0 rfl rfl)
theorem dX6_faultsWith_1 : decode cX6_faultsWith 1 = .ok (.invokevirtual 389, 3) := dk_182 1 133 (dk_at dksX6_faultsWith_0 1 rfl rfl)
theorem dX6_faultsWith_4 : decode cX6_faultsWith 4 = .ok (.aload_n 0, 1) := dk_42 (dk_at dksX6_faultsWith_0 4 rfl rfl)
theorem dX6_faultsWith_5 : decode cX6_faultsWith 5 = .ok (.iload_n 1, 1) := dk_27 (dk_at dksX6_faultsWith_0 5 rfl rfl)
theorem dX6_faultsWith_6 : decode cX6_faultsWith 6 = .ok (.iconst 0, 1) := dk_3 (dk_at dksX6_faultsWith_0 6 rfl rfl)
theorem dX6_faultsWith_7 : decode cX6_faultsWith 7 = .ok (.iload_n 2, 1) := dk_28 (dk_at dksX6_faultsWith_0 7 rfl rfl)
theorem dX6_faultsWith_8 : decode cX6_faultsWith 8 = .ok (.invokevirtual 370, 3) := dk_182 1 114 (dk_at dksX6_faultsWith_0 8 rfl rfl)
theorem dX6_faultsWith_11 : decode cX6_faultsWith 11 = .ok (.aload_n 0, 1) := dk_42 (dk_at dksX6_faultsWith_0 11 rfl rfl)
theorem dX6_faultsWith_12 : decode cX6_faultsWith 12 = .ok (.invokevirtual 376, 3) := dk_182 1 120 (dk_at dksX6_faultsWith_0 12 rfl rfl)
theorem dX6_faultsWith_15 : decode cX6_faultsWith 15 = .ok (.istore_n 3, 1) := dk_62 (dk_at dksX6_faultsWith_0 15 rfl rfl)
theorem dX6_faultsWith_16 : decode cX6_faultsWith 16 = .ok (.aload_n 0, 1) := dk_42 (dk_at dksX6_faultsWith_0 16 rfl rfl)
theorem dX6_faultsWith_17 : decode cX6_faultsWith 17 = .ok (.invokevirtual 395, 3) := dk_182 1 139 (dk_at dksX6_faultsWith_0 17 rfl rfl)
theorem dX6_faultsWith_20 : decode cX6_faultsWith 20 = .ok (.iload_n 3, 1) := dk_29 (dk_at dksX6_faultsWith_0 20 rfl rfl)
theorem dX6_faultsWith_21 : decode cX6_faultsWith 21 = .ok (.ireturn, 1) := dk_172 (dk_at dksX6_faultsWith_0 21 rfl rfl)
abbrev cX6_range : ByteArray := prog_25_method_97_code
def yX6_range : MethodName := ⟨RX6, "range", "(II)I"⟩
def dkwX6_range_4 : List UInt8 := [21, 7, 54, 6, 132, 7, 1, 167, 255, 208, 28, 154, 0, 8, 21, 5, 167, 0, 5, 21, 6, 172]
abbrev dktX6_range_4 : List UInt8 := dkwX6_range_4 ++ []
def dkwX6_range_3 : List UInt8 := [27, 182, 0, 182, 153, 0, 6, 167, 0, 21, 21, 5, 156, 0, 8, 21, 7, 167, 0, 5, 21, 5, 54, 5]
abbrev dktX6_range_3 : List UInt8 := dkwX6_range_3 ++ dktX6_range_4
def dkwX6_range_2 : List UInt8 := [16, 247, 54, 6, 3, 54, 7, 21, 7, 16, 99, 163, 0, 47, 42, 29, 21, 7, 182, 1, 142, 87, 42, 3]
abbrev dktX6_range_2 : List UInt8 := dkwX6_range_2 ++ dktX6_range_3
def dkwX6_range_1 : List UInt8 := [16, 254, 167, 0, 4, 3, 54, 4, 21, 4, 153, 0, 10, 42, 21, 4, 182, 0, 253, 172, 16, 247, 54, 5]
abbrev dktX6_range_1 : List UInt8 := dkwX6_range_1 ++ dktX6_range_2
def dkwX6_range_0 : List UInt8 := [42, 27, 182, 0, 146, 62, 29, 156, 0, 7, 2, 167, 0, 18, 28, 3, 4, 184, 0, 213, 154, 0, 8]
abbrev dktX6_range_0 : List UInt8 := dkwX6_range_0 ++ dktX6_range_1
theorem dksX6_range_0 : cX6_range.data.toList.drop 0 = dktX6_range_0 := by decide +kernel
theorem dksX6_range_1 : cX6_range.data.toList.drop 23 = dktX6_range_1 := dk_seg dksX6_range_0 23 rfl rfl
theorem dksX6_range_2 : cX6_range.data.toList.drop 47 = dktX6_range_2 := dk_seg dksX6_range_1 24 rfl rfl
theorem dksX6_range_3 : cX6_range.data.toList.drop 71 = dktX6_range_3 := dk_seg dksX6_range_2 24 rfl rfl
theorem dksX6_range_4 : cX6_range.data.toList.drop 95 = dktX6_range_4 := dk_seg dksX6_range_3 24 rfl rfl
theorem dX6_range_0 : decode cX6_range 0 = .ok (.aload_n 0, 1) := dk_42 (dk_at dksX6_range_0 0 rfl rfl)
theorem dX6_range_1 : decode cX6_range 1 = .ok (.iload_n 1, 1) := dk_27 (dk_at dksX6_range_0 1 rfl rfl)
theorem dX6_range_2 : decode cX6_range 2 = .ok (.invokevirtual 146, 3) := dk_182 0 146 (dk_at dksX6_range_0 2 rfl rfl)
theorem dX6_range_5 : decode cX6_range 5 = .ok (.istore_n 3, 1) := dk_62 (dk_at dksX6_range_0 5 rfl rfl)
theorem dX6_range_6 : decode cX6_range 6 = .ok (.iload_n 3, 1) := dk_29 (dk_at dksX6_range_0 6 rfl rfl)
theorem dX6_range_7 : decode cX6_range 7 = .ok (.ifCond .ge 7, 3) := dk_156 0 7 (dk_at dksX6_range_0 7 rfl rfl)
theorem dX6_range_10 : decode cX6_range 10 = .ok (.iconst (-1), 1) := dk_2 (dk_at dksX6_range_0 10 rfl rfl)
theorem dX6_range_11 : decode cX6_range 11 = .ok (.goto 18, 3) := dk_167 0 18 (dk_at dksX6_range_0 11 rfl rfl)
theorem dX6_range_14 : decode cX6_range 14 = .ok (.iload_n 2, 1) := dk_28 (dk_at dksX6_range_0 14 rfl rfl)
theorem dX6_range_15 : decode cX6_range 15 = .ok (.iconst 0, 1) := dk_3 (dk_at dksX6_range_0 15 rfl rfl)
theorem dX6_range_16 : decode cX6_range 16 = .ok (.iconst 1, 1) := dk_4 (dk_at dksX6_range_0 16 rfl rfl)
theorem dX6_range_17 : decode cX6_range 17 = .ok (.invokestatic 213, 3) := dk_184 0 213 (dk_at dksX6_range_0 17 rfl rfl)
theorem dX6_range_20 : decode cX6_range 20 = .ok (.ifCond .ne 8, 3) := dk_154 0 8 (dk_at dksX6_range_0 20 rfl rfl)
theorem dX6_range_23 : decode cX6_range 23 = .ok (.bipush (-2), 2) := dk_16 254 (dk_at dksX6_range_1 0 rfl rfl)
theorem dX6_range_25 : decode cX6_range 25 = .ok (.goto 4, 3) := dk_167 0 4 (dk_at dksX6_range_1 2 rfl rfl)
theorem dX6_range_28 : decode cX6_range 28 = .ok (.iconst 0, 1) := dk_3 (dk_at dksX6_range_1 5 rfl rfl)
theorem dX6_range_29 : decode cX6_range 29 = .ok (.istore 4, 2) := dk_54 4 (dk_at dksX6_range_1 6 rfl rfl)
theorem dX6_range_31 : decode cX6_range 31 = .ok (.iload 4, 2) := dk_21 4 (dk_at dksX6_range_1 8 rfl rfl)
theorem dX6_range_33 : decode cX6_range 33 = .ok (.ifCond .eq 10, 3) := dk_153 0 10 (dk_at dksX6_range_1 10 rfl rfl)
theorem dX6_range_36 : decode cX6_range 36 = .ok (.aload_n 0, 1) := dk_42 (dk_at dksX6_range_1 13 rfl rfl)
theorem dX6_range_37 : decode cX6_range 37 = .ok (.iload 4, 2) := dk_21 4 (dk_at dksX6_range_1 14 rfl rfl)
theorem dX6_range_39 : decode cX6_range 39 = .ok (.invokevirtual 253, 3) := dk_182 0 253 (dk_at dksX6_range_1 16 rfl rfl)
theorem dX6_range_42 : decode cX6_range 42 = .ok (.ireturn, 1) := dk_172 (dk_at dksX6_range_1 19 rfl rfl)
theorem dX6_range_43 : decode cX6_range 43 = .ok (.bipush (-9), 2) := dk_16 247 (dk_at dksX6_range_1 20 rfl rfl)
theorem dX6_range_45 : decode cX6_range 45 = .ok (.istore 5, 2) := dk_54 5 (dk_at dksX6_range_1 22 rfl rfl)
theorem dX6_range_47 : decode cX6_range 47 = .ok (.bipush (-9), 2) := dk_16 247 (dk_at dksX6_range_2 0 rfl rfl)
theorem dX6_range_49 : decode cX6_range 49 = .ok (.istore 6, 2) := dk_54 6 (dk_at dksX6_range_2 2 rfl rfl)
theorem dX6_range_51 : decode cX6_range 51 = .ok (.iconst 0, 1) := dk_3 (dk_at dksX6_range_2 4 rfl rfl)
theorem dX6_range_52 : decode cX6_range 52 = .ok (.istore 7, 2) := dk_54 7 (dk_at dksX6_range_2 5 rfl rfl)
theorem dX6_range_54 : decode cX6_range 54 = .ok (.iload 7, 2) := dk_21 7 (dk_at dksX6_range_2 7 rfl rfl)
theorem dX6_range_56 : decode cX6_range 56 = .ok (.bipush 99, 2) := dk_16 99 (dk_at dksX6_range_2 9 rfl rfl)
theorem dX6_range_58 : decode cX6_range 58 = .ok (.if_icmp .gt 47, 3) := dk_163 0 47 (dk_at dksX6_range_2 11 rfl rfl)
theorem dX6_range_61 : decode cX6_range 61 = .ok (.aload_n 0, 1) := dk_42 (dk_at dksX6_range_2 14 rfl rfl)
theorem dX6_range_62 : decode cX6_range 62 = .ok (.iload_n 3, 1) := dk_29 (dk_at dksX6_range_2 15 rfl rfl)
theorem dX6_range_63 : decode cX6_range 63 = .ok (.iload 7, 2) := dk_21 7 (dk_at dksX6_range_2 16 rfl rfl)
theorem dX6_range_65 : decode cX6_range 65 = .ok (.invokevirtual 398, 3) := dk_182 1 142 (dk_at dksX6_range_2 18 rfl rfl)
theorem dX6_range_68 : decode cX6_range 68 = .ok (.pop, 1) := dk_87 (dk_at dksX6_range_2 21 rfl rfl)
theorem dX6_range_69 : decode cX6_range 69 = .ok (.aload_n 0, 1) := dk_42 (dk_at dksX6_range_2 22 rfl rfl)
theorem dX6_range_70 : decode cX6_range 70 = .ok (.iconst 0, 1) := dk_3 (dk_at dksX6_range_2 23 rfl rfl)
theorem dX6_range_71 : decode cX6_range 71 = .ok (.iload_n 1, 1) := dk_27 (dk_at dksX6_range_3 0 rfl rfl)
theorem dX6_range_72 : decode cX6_range 72 = .ok (.invokevirtual 182, 3) := dk_182 0 182 (dk_at dksX6_range_3 1 rfl rfl)
theorem dX6_range_75 : decode cX6_range 75 = .ok (.ifCond .eq 6, 3) := dk_153 0 6 (dk_at dksX6_range_3 4 rfl rfl)
theorem dX6_range_78 : decode cX6_range 78 = .ok (.goto 21, 3) := dk_167 0 21 (dk_at dksX6_range_3 7 rfl rfl)
theorem dX6_range_81 : decode cX6_range 81 = .ok (.iload 5, 2) := dk_21 5 (dk_at dksX6_range_3 10 rfl rfl)
theorem dX6_range_83 : decode cX6_range 83 = .ok (.ifCond .ge 8, 3) := dk_156 0 8 (dk_at dksX6_range_3 12 rfl rfl)
theorem dX6_range_86 : decode cX6_range 86 = .ok (.iload 7, 2) := dk_21 7 (dk_at dksX6_range_3 15 rfl rfl)
theorem dX6_range_88 : decode cX6_range 88 = .ok (.goto 5, 3) := dk_167 0 5 (dk_at dksX6_range_3 17 rfl rfl)
theorem dX6_range_91 : decode cX6_range 91 = .ok (.iload 5, 2) := dk_21 5 (dk_at dksX6_range_3 20 rfl rfl)
theorem dX6_range_93 : decode cX6_range 93 = .ok (.istore 5, 2) := dk_54 5 (dk_at dksX6_range_3 22 rfl rfl)
theorem dX6_range_95 : decode cX6_range 95 = .ok (.iload 7, 2) := dk_21 7 (dk_at dksX6_range_4 0 rfl rfl)
theorem dX6_range_97 : decode cX6_range 97 = .ok (.istore 6, 2) := dk_54 6 (dk_at dksX6_range_4 2 rfl rfl)
theorem dX6_range_99 : decode cX6_range 99 = .ok (.iinc 7 1, 3) := dk_132 7 1 (dk_at dksX6_range_4 4 rfl rfl)
theorem dX6_range_102 : decode cX6_range 102 = .ok (.goto (-48), 3) := dk_167 255 208 (dk_at dksX6_range_4 7 rfl rfl)
theorem dX6_range_105 : decode cX6_range 105 = .ok (.iload_n 2, 1) := dk_28 (dk_at dksX6_range_4 10 rfl rfl)
theorem dX6_range_106 : decode cX6_range 106 = .ok (.ifCond .ne 8, 3) := dk_154 0 8 (dk_at dksX6_range_4 11 rfl rfl)
theorem dX6_range_109 : decode cX6_range 109 = .ok (.iload 5, 2) := dk_21 5 (dk_at dksX6_range_4 14 rfl rfl)
theorem dX6_range_111 : decode cX6_range 111 = .ok (.goto 5, 3) := dk_167 0 5 (dk_at dksX6_range_4 16 rfl rfl)
theorem dX6_range_114 : decode cX6_range 114 = .ok (.iload 6, 2) := dk_21 6 (dk_at dksX6_range_4 19 rfl rfl)
theorem dX6_range_116 : decode cX6_range 116 = .ok (.ireturn, 1) := dk_172 (dk_at dksX6_range_4 21 rfl rfl)
abbrev cX6_loss : ByteArray := prog_25_method_102_code
def yX6_loss : MethodName := ⟨RX6, "loss", "(II)J"⟩
def dkwX6_loss_7 : List UInt8 := [22, 7, 28, 184, 1, 159, 173]
abbrev dktX6_loss_7 : List UInt8 := dkwX6_loss_7 ++ []
def dkwX6_loss_6 : List UInt8 := [154, 0, 8, 22, 10, 167, 0, 4, 9, 97, 55, 5, 42, 182, 1, 139, 132, 9, 1, 167, 255, 170, 22, 5]
abbrev dktX6_loss_6 : List UInt8 := dkwX6_loss_6 ++ dktX6_loss_7
def dkwX6_loss_5 : List UInt8 := [132, 12, 1, 167, 255, 223, 42, 182, 1, 133, 42, 21, 9, 182, 1, 156, 22, 5, 42, 182, 1, 120]
abbrev dktX6_loss_5 : List UInt8 := dkwX6_loss_5 ++ dktX6_loss_6
def dkwX6_loss_4 : List UInt8 := [22, 10, 21, 9, 21, 12, 184, 1, 39, 153, 0, 7, 10, 167, 0, 7, 27, 4, 100, 133, 105, 55, 10]
abbrev dktX6_loss_4 : List UInt8 := dkwX6_loss_4 ++ dktX6_loss_5
def dkwX6_loss_3 : List UInt8 := [54, 9, 21, 9, 4, 21, 4, 120, 162, 0, 83, 10, 55, 10, 3, 54, 12, 21, 12, 21, 4, 162, 0, 32]
abbrev dktX6_loss_3 : List UInt8 := dkwX6_loss_3 ++ dktX6_loss_4
def dkwX6_loss_2 : List UInt8 := [3, 54, 9, 21, 9, 21, 4, 162, 0, 16, 22, 7, 27, 133, 105, 55, 7, 132, 9, 1, 167, 255, 239, 3]
abbrev dktX6_loss_2 : List UInt8 := dkwX6_loss_2 ++ dktX6_loss_3
def dkwX6_loss_1 : List UInt8 := [29, 153, 0, 9, 42, 29, 182, 1, 149, 173, 42, 16, 6, 182, 1, 153, 54, 4, 9, 55, 5, 10, 55, 7]
abbrev dktX6_loss_1 : List UInt8 := dkwX6_loss_1 ++ dktX6_loss_2
def dkwX6_loss_0 : List UInt8 := [27, 5, 16, 20, 184, 0, 246, 62, 29, 154, 0, 15, 28, 3, 4, 184, 0, 213, 154, 0, 6, 16, 254, 62]
abbrev dktX6_loss_0 : List UInt8 := dkwX6_loss_0 ++ dktX6_loss_1
theorem dksX6_loss_0 : cX6_loss.data.toList.drop 0 = dktX6_loss_0 := by decide +kernel
theorem dksX6_loss_1 : cX6_loss.data.toList.drop 24 = dktX6_loss_1 := dk_seg dksX6_loss_0 24 rfl rfl
theorem dksX6_loss_2 : cX6_loss.data.toList.drop 48 = dktX6_loss_2 := dk_seg dksX6_loss_1 24 rfl rfl
theorem dksX6_loss_3 : cX6_loss.data.toList.drop 72 = dktX6_loss_3 := dk_seg dksX6_loss_2 24 rfl rfl
theorem dksX6_loss_4 : cX6_loss.data.toList.drop 96 = dktX6_loss_4 := dk_seg dksX6_loss_3 24 rfl rfl
theorem dksX6_loss_5 : cX6_loss.data.toList.drop 119 = dktX6_loss_5 := dk_seg dksX6_loss_4 23 rfl rfl
theorem dksX6_loss_6 : cX6_loss.data.toList.drop 141 = dktX6_loss_6 := dk_seg dksX6_loss_5 22 rfl rfl
theorem dksX6_loss_7 : cX6_loss.data.toList.drop 165 = dktX6_loss_7 := dk_seg dksX6_loss_6 24 rfl rfl
theorem dX6_loss_0 : decode cX6_loss 0 = .ok (.iload_n 1, 1) := dk_27 (dk_at dksX6_loss_0 0 rfl rfl)
theorem dX6_loss_1 : decode cX6_loss 1 = .ok (.iconst 2, 1) := dk_5 (dk_at dksX6_loss_0 1 rfl rfl)
theorem dX6_loss_2 : decode cX6_loss 2 = .ok (.bipush 20, 2) := dk_16 20 (dk_at dksX6_loss_0 2 rfl rfl)
theorem dX6_loss_4 : decode cX6_loss 4 = .ok (.invokestatic 246, 3) := dk_184 0 246 (dk_at dksX6_loss_0 4 rfl rfl)
theorem dX6_loss_7 : decode cX6_loss 7 = .ok (.istore_n 3, 1) := dk_62 (dk_at dksX6_loss_0 7 rfl rfl)
theorem dX6_loss_8 : decode cX6_loss 8 = .ok (.iload_n 3, 1) := dk_29 (dk_at dksX6_loss_0 8 rfl rfl)
theorem dX6_loss_9 : decode cX6_loss 9 = .ok (.ifCond .ne 15, 3) := dk_154 0 15 (dk_at dksX6_loss_0 9 rfl rfl)
theorem dX6_loss_12 : decode cX6_loss 12 = .ok (.iload_n 2, 1) := dk_28 (dk_at dksX6_loss_0 12 rfl rfl)
theorem dX6_loss_13 : decode cX6_loss 13 = .ok (.iconst 0, 1) := dk_3 (dk_at dksX6_loss_0 13 rfl rfl)
theorem dX6_loss_14 : decode cX6_loss 14 = .ok (.iconst 1, 1) := dk_4 (dk_at dksX6_loss_0 14 rfl rfl)
theorem dX6_loss_15 : decode cX6_loss 15 = .ok (.invokestatic 213, 3) := dk_184 0 213 (dk_at dksX6_loss_0 15 rfl rfl)
theorem dX6_loss_18 : decode cX6_loss 18 = .ok (.ifCond .ne 6, 3) := dk_154 0 6 (dk_at dksX6_loss_0 18 rfl rfl)
theorem dX6_loss_21 : decode cX6_loss 21 = .ok (.bipush (-2), 2) := dk_16 254 (dk_at dksX6_loss_0 21 rfl rfl)
theorem dX6_loss_23 : decode cX6_loss 23 = .ok (.istore_n 3, 1) := dk_62 (dk_at dksX6_loss_0 23 rfl rfl)
theorem dX6_loss_24 : decode cX6_loss 24 = .ok (.iload_n 3, 1) := dk_29 (dk_at dksX6_loss_1 0 rfl rfl)
theorem dX6_loss_25 : decode cX6_loss 25 = .ok (.ifCond .eq 9, 3) := dk_153 0 9 (dk_at dksX6_loss_1 1 rfl rfl)
theorem dX6_loss_28 : decode cX6_loss 28 = .ok (.aload_n 0, 1) := dk_42 (dk_at dksX6_loss_1 4 rfl rfl)
theorem dX6_loss_29 : decode cX6_loss 29 = .ok (.iload_n 3, 1) := dk_29 (dk_at dksX6_loss_1 5 rfl rfl)
theorem dX6_loss_30 : decode cX6_loss 30 = .ok (.invokevirtual 405, 3) := dk_182 1 149 (dk_at dksX6_loss_1 6 rfl rfl)
theorem dX6_loss_33 : decode cX6_loss 33 = .ok (.lreturn, 1) := dk_173 (dk_at dksX6_loss_1 9 rfl rfl)
theorem dX6_loss_34 : decode cX6_loss 34 = .ok (.aload_n 0, 1) := dk_42 (dk_at dksX6_loss_1 10 rfl rfl)
theorem dX6_loss_35 : decode cX6_loss 35 = .ok (.bipush 6, 2) := dk_16 6 (dk_at dksX6_loss_1 11 rfl rfl)
theorem dX6_loss_37 : decode cX6_loss 37 = .ok (.invokevirtual 409, 3) := dk_182 1 153 (dk_at dksX6_loss_1 13 rfl rfl)
theorem dX6_loss_40 : decode cX6_loss 40 = .ok (.istore 4, 2) := dk_54 4 (dk_at dksX6_loss_1 16 rfl rfl)
theorem dX6_loss_42 : decode cX6_loss 42 = .ok (.lconst 0, 1) := dk_9 (dk_at dksX6_loss_1 18 rfl rfl)
theorem dX6_loss_43 : decode cX6_loss 43 = .ok (.lstore 5, 2) := dk_55 5 (dk_at dksX6_loss_1 19 rfl rfl)
theorem dX6_loss_45 : decode cX6_loss 45 = .ok (.lconst 1, 1) := dk_10 (dk_at dksX6_loss_1 21 rfl rfl)
theorem dX6_loss_46 : decode cX6_loss 46 = .ok (.lstore 7, 2) := dk_55 7 (dk_at dksX6_loss_1 22 rfl rfl)
theorem dX6_loss_48 : decode cX6_loss 48 = .ok (.iconst 0, 1) := dk_3 (dk_at dksX6_loss_2 0 rfl rfl)
theorem dX6_loss_49 : decode cX6_loss 49 = .ok (.istore 9, 2) := dk_54 9 (dk_at dksX6_loss_2 1 rfl rfl)
theorem dX6_loss_51 : decode cX6_loss 51 = .ok (.iload 9, 2) := dk_21 9 (dk_at dksX6_loss_2 3 rfl rfl)
theorem dX6_loss_53 : decode cX6_loss 53 = .ok (.iload 4, 2) := dk_21 4 (dk_at dksX6_loss_2 5 rfl rfl)
theorem dX6_loss_55 : decode cX6_loss 55 = .ok (.if_icmp .ge 16, 3) := dk_162 0 16 (dk_at dksX6_loss_2 7 rfl rfl)
theorem dX6_loss_58 : decode cX6_loss 58 = .ok (.lload 7, 2) := dk_22 7 (dk_at dksX6_loss_2 10 rfl rfl)
theorem dX6_loss_60 : decode cX6_loss 60 = .ok (.iload_n 1, 1) := dk_27 (dk_at dksX6_loss_2 12 rfl rfl)
theorem dX6_loss_61 : decode cX6_loss 61 = .ok (.i2l, 1) := dk_133 (dk_at dksX6_loss_2 13 rfl rfl)
theorem dX6_loss_62 : decode cX6_loss 62 = .ok (.lmul, 1) := dk_105 (dk_at dksX6_loss_2 14 rfl rfl)
theorem dX6_loss_63 : decode cX6_loss 63 = .ok (.lstore 7, 2) := dk_55 7 (dk_at dksX6_loss_2 15 rfl rfl)
theorem dX6_loss_65 : decode cX6_loss 65 = .ok (.iinc 9 1, 3) := dk_132 9 1 (dk_at dksX6_loss_2 17 rfl rfl)
theorem dX6_loss_68 : decode cX6_loss 68 = .ok (.goto (-17), 3) := dk_167 255 239 (dk_at dksX6_loss_2 20 rfl rfl)
theorem dX6_loss_71 : decode cX6_loss 71 = .ok (.iconst 0, 1) := dk_3 (dk_at dksX6_loss_2 23 rfl rfl)
theorem dX6_loss_72 : decode cX6_loss 72 = .ok (.istore 9, 2) := dk_54 9 (dk_at dksX6_loss_3 0 rfl rfl)
theorem dX6_loss_74 : decode cX6_loss 74 = .ok (.iload 9, 2) := dk_21 9 (dk_at dksX6_loss_3 2 rfl rfl)
theorem dX6_loss_76 : decode cX6_loss 76 = .ok (.iconst 1, 1) := dk_4 (dk_at dksX6_loss_3 4 rfl rfl)
theorem dX6_loss_77 : decode cX6_loss 77 = .ok (.iload 4, 2) := dk_21 4 (dk_at dksX6_loss_3 5 rfl rfl)
theorem dX6_loss_79 : decode cX6_loss 79 = .ok (.ishl, 1) := dk_120 (dk_at dksX6_loss_3 7 rfl rfl)
theorem dX6_loss_80 : decode cX6_loss 80 = .ok (.if_icmp .ge 83, 3) := dk_162 0 83 (dk_at dksX6_loss_3 8 rfl rfl)
theorem dX6_loss_83 : decode cX6_loss 83 = .ok (.lconst 1, 1) := dk_10 (dk_at dksX6_loss_3 11 rfl rfl)
theorem dX6_loss_84 : decode cX6_loss 84 = .ok (.lstore 10, 2) := dk_55 10 (dk_at dksX6_loss_3 12 rfl rfl)
theorem dX6_loss_86 : decode cX6_loss 86 = .ok (.iconst 0, 1) := dk_3 (dk_at dksX6_loss_3 14 rfl rfl)
theorem dX6_loss_87 : decode cX6_loss 87 = .ok (.istore 12, 2) := dk_54 12 (dk_at dksX6_loss_3 15 rfl rfl)
theorem dX6_loss_89 : decode cX6_loss 89 = .ok (.iload 12, 2) := dk_21 12 (dk_at dksX6_loss_3 17 rfl rfl)
theorem dX6_loss_91 : decode cX6_loss 91 = .ok (.iload 4, 2) := dk_21 4 (dk_at dksX6_loss_3 19 rfl rfl)
theorem dX6_loss_93 : decode cX6_loss 93 = .ok (.if_icmp .ge 32, 3) := dk_162 0 32 (dk_at dksX6_loss_3 21 rfl rfl)
theorem dX6_loss_96 : decode cX6_loss 96 = .ok (.lload 10, 2) := dk_22 10 (dk_at dksX6_loss_4 0 rfl rfl)
theorem dX6_loss_98 : decode cX6_loss 98 = .ok (.iload 9, 2) := dk_21 9 (dk_at dksX6_loss_4 2 rfl rfl)
theorem dX6_loss_100 : decode cX6_loss 100 = .ok (.iload 12, 2) := dk_21 12 (dk_at dksX6_loss_4 4 rfl rfl)
theorem dX6_loss_102 : decode cX6_loss 102 = .ok (.invokestatic 295, 3) := dk_184 1 39 (dk_at dksX6_loss_4 6 rfl rfl)
theorem dX6_loss_105 : decode cX6_loss 105 = .ok (.ifCond .eq 7, 3) := dk_153 0 7 (dk_at dksX6_loss_4 9 rfl rfl)
theorem dX6_loss_108 : decode cX6_loss 108 = .ok (.lconst 1, 1) := dk_10 (dk_at dksX6_loss_4 12 rfl rfl)
theorem dX6_loss_109 : decode cX6_loss 109 = .ok (.goto 7, 3) := dk_167 0 7 (dk_at dksX6_loss_4 13 rfl rfl)
theorem dX6_loss_112 : decode cX6_loss 112 = .ok (.iload_n 1, 1) := dk_27 (dk_at dksX6_loss_4 16 rfl rfl)
theorem dX6_loss_113 : decode cX6_loss 113 = .ok (.iconst 1, 1) := dk_4 (dk_at dksX6_loss_4 17 rfl rfl)
theorem dX6_loss_114 : decode cX6_loss 114 = .ok (.isub, 1) := dk_100 (dk_at dksX6_loss_4 18 rfl rfl)
theorem dX6_loss_115 : decode cX6_loss 115 = .ok (.i2l, 1) := dk_133 (dk_at dksX6_loss_4 19 rfl rfl)
theorem dX6_loss_116 : decode cX6_loss 116 = .ok (.lmul, 1) := dk_105 (dk_at dksX6_loss_4 20 rfl rfl)
theorem dX6_loss_117 : decode cX6_loss 117 = .ok (.lstore 10, 2) := dk_55 10 (dk_at dksX6_loss_4 21 rfl rfl)
theorem dX6_loss_119 : decode cX6_loss 119 = .ok (.iinc 12 1, 3) := dk_132 12 1 (dk_at dksX6_loss_5 0 rfl rfl)
theorem dX6_loss_122 : decode cX6_loss 122 = .ok (.goto (-33), 3) := dk_167 255 223 (dk_at dksX6_loss_5 3 rfl rfl)
theorem dX6_loss_125 : decode cX6_loss 125 = .ok (.aload_n 0, 1) := dk_42 (dk_at dksX6_loss_5 6 rfl rfl)
theorem dX6_loss_126 : decode cX6_loss 126 = .ok (.invokevirtual 389, 3) := dk_182 1 133 (dk_at dksX6_loss_5 7 rfl rfl)
theorem dX6_loss_129 : decode cX6_loss 129 = .ok (.aload_n 0, 1) := dk_42 (dk_at dksX6_loss_5 10 rfl rfl)
theorem dX6_loss_130 : decode cX6_loss 130 = .ok (.iload 9, 2) := dk_21 9 (dk_at dksX6_loss_5 11 rfl rfl)
theorem dX6_loss_132 : decode cX6_loss 132 = .ok (.invokevirtual 412, 3) := dk_182 1 156 (dk_at dksX6_loss_5 13 rfl rfl)
theorem dX6_loss_135 : decode cX6_loss 135 = .ok (.lload 5, 2) := dk_22 5 (dk_at dksX6_loss_5 16 rfl rfl)
theorem dX6_loss_137 : decode cX6_loss 137 = .ok (.aload_n 0, 1) := dk_42 (dk_at dksX6_loss_5 18 rfl rfl)
theorem dX6_loss_138 : decode cX6_loss 138 = .ok (.invokevirtual 376, 3) := dk_182 1 120 (dk_at dksX6_loss_5 19 rfl rfl)
theorem dX6_loss_141 : decode cX6_loss 141 = .ok (.ifCond .ne 8, 3) := dk_154 0 8 (dk_at dksX6_loss_6 0 rfl rfl)
theorem dX6_loss_144 : decode cX6_loss 144 = .ok (.lload 10, 2) := dk_22 10 (dk_at dksX6_loss_6 3 rfl rfl)
theorem dX6_loss_146 : decode cX6_loss 146 = .ok (.goto 4, 3) := dk_167 0 4 (dk_at dksX6_loss_6 5 rfl rfl)
theorem dX6_loss_149 : decode cX6_loss 149 = .ok (.lconst 0, 1) := dk_9 (dk_at dksX6_loss_6 8 rfl rfl)
theorem dX6_loss_150 : decode cX6_loss 150 = .ok (.ladd, 1) := dk_97 (dk_at dksX6_loss_6 9 rfl rfl)
theorem dX6_loss_151 : decode cX6_loss 151 = .ok (.lstore 5, 2) := dk_55 5 (dk_at dksX6_loss_6 10 rfl rfl)
theorem dX6_loss_153 : decode cX6_loss 153 = .ok (.aload_n 0, 1) := dk_42 (dk_at dksX6_loss_6 12 rfl rfl)
theorem dX6_loss_154 : decode cX6_loss 154 = .ok (.invokevirtual 395, 3) := dk_182 1 139 (dk_at dksX6_loss_6 13 rfl rfl)
theorem dX6_loss_157 : decode cX6_loss 157 = .ok (.iinc 9 1, 3) := dk_132 9 1 (dk_at dksX6_loss_6 16 rfl rfl)
theorem dX6_loss_160 : decode cX6_loss 160 = .ok (.goto (-86), 3) := dk_167 255 170 (dk_at dksX6_loss_6 19 rfl rfl)
theorem dX6_loss_163 : decode cX6_loss 163 = .ok (.lload 5, 2) := dk_22 5 (dk_at dksX6_loss_6 22 rfl rfl)
theorem dX6_loss_165 : decode cX6_loss 165 = .ok (.lload 7, 2) := dk_22 7 (dk_at dksX6_loss_7 0 rfl rfl)
theorem dX6_loss_167 : decode cX6_loss 167 = .ok (.iload_n 2, 1) := dk_28 (dk_at dksX6_loss_7 2 rfl rfl)
theorem dX6_loss_168 : decode cX6_loss 168 = .ok (.invokestatic 415, 3) := dk_184 1 159 (dk_at dksX6_loss_7 3 rfl rfl)
theorem dX6_loss_171 : decode cX6_loss 171 = .ok (.lreturn, 1) := dk_173 (dk_at dksX6_loss_7 6 rfl rfl)
abbrev cX6_lowestOf : ByteArray := prog_25_method_3_code
def yX6_lowestOf : MethodName := ⟨RX6, "lowestOf", "(I)J"⟩
def dkwX6_lowestOf_0 : List UInt8 := [42, 180, 0, 7, 27, 116, 92, 46, 4, 96, 79, 20, 0, 128, 27, 133, 101, 173]
abbrev dktX6_lowestOf_0 : List UInt8 := dkwX6_lowestOf_0 ++ []
theorem dksX6_lowestOf_0 : cX6_lowestOf.data.toList.drop 0 = dktX6_lowestOf_0 := by decide +kernel
theorem dX6_lowestOf_0 : decode cX6_lowestOf 0 = .ok (.aload_n 0, 1) := dk_42 (dk_at dksX6_lowestOf_0 0 rfl rfl)
theorem dX6_lowestOf_1 : decode cX6_lowestOf 1 = .ok (.getfield 7, 3) := dk_180 0 7 (dk_at dksX6_lowestOf_0 1 rfl rfl)
theorem dX6_lowestOf_4 : decode cX6_lowestOf 4 = .ok (.iload_n 1, 1) := dk_27 (dk_at dksX6_lowestOf_0 4 rfl rfl)
theorem dX6_lowestOf_5 : decode cX6_lowestOf 5 = .ok (.ineg, 1) := dk_116 (dk_at dksX6_lowestOf_0 5 rfl rfl)
theorem dX6_lowestOf_6 : decode cX6_lowestOf 6 = .ok (.dup2, 1) := dk_92 (dk_at dksX6_lowestOf_0 6 rfl rfl)
theorem dX6_lowestOf_7 : decode cX6_lowestOf 7 = .ok (.iaload, 1) := dk_46 (dk_at dksX6_lowestOf_0 7 rfl rfl)
theorem dX6_lowestOf_8 : decode cX6_lowestOf 8 = .ok (.iconst 1, 1) := dk_4 (dk_at dksX6_lowestOf_0 8 rfl rfl)
theorem dX6_lowestOf_9 : decode cX6_lowestOf 9 = .ok (.iadd, 1) := dk_96 (dk_at dksX6_lowestOf_0 9 rfl rfl)
theorem dX6_lowestOf_10 : decode cX6_lowestOf 10 = .ok (.iastore, 1) := dk_79 (dk_at dksX6_lowestOf_0 10 rfl rfl)
theorem dX6_lowestOf_11 : decode cX6_lowestOf 11 = .ok (.ldc2_w 128, 3) := dk_20 0 128 (dk_at dksX6_lowestOf_0 11 rfl rfl)
theorem dX6_lowestOf_14 : decode cX6_lowestOf 14 = .ok (.iload_n 1, 1) := dk_27 (dk_at dksX6_lowestOf_0 14 rfl rfl)
theorem dX6_lowestOf_15 : decode cX6_lowestOf 15 = .ok (.i2l, 1) := dk_133 (dk_at dksX6_lowestOf_0 15 rfl rfl)
theorem dX6_lowestOf_16 : decode cX6_lowestOf 16 = .ok (.lsub, 1) := dk_101 (dk_at dksX6_lowestOf_0 16 rfl rfl)
theorem dX6_lowestOf_17 : decode cX6_lowestOf 17 = .ok (.lreturn, 1) := dk_173 (dk_at dksX6_lowestOf_0 17 rfl rfl)
abbrev cX6_numbersUpTo : ByteArray := prog_25_method_100_code
def yX6_numbersUpTo : MethodName := ⟨RX6, "numbersUpTo", "(I)I"⟩
def dkwX6_numbersUpTo_1 : List UInt8 := [167, 0, 4, 3, 96, 61, 132, 3, 1, 167, 255, 228, 28, 27, 162, 0, 7, 28, 167, 0, 4, 27, 172]
abbrev dktX6_numbersUpTo_1 : List UInt8 := dkwX6_numbersUpTo_1 ++ []
def dkwX6_numbersUpTo_0 : List UInt8 := [3, 61, 3, 62, 29, 42, 180, 0, 118, 162, 0, 26, 28, 42, 180, 0, 13, 29, 46, 154, 0, 7, 4]
abbrev dktX6_numbersUpTo_0 : List UInt8 := dkwX6_numbersUpTo_0 ++ dktX6_numbersUpTo_1
theorem dksX6_numbersUpTo_0 : cX6_numbersUpTo.data.toList.drop 0 = dktX6_numbersUpTo_0 := by decide +kernel
theorem dksX6_numbersUpTo_1 : cX6_numbersUpTo.data.toList.drop 23 = dktX6_numbersUpTo_1 := dk_seg dksX6_numbersUpTo_0 23 rfl rfl
theorem dX6_numbersUpTo_0 : decode cX6_numbersUpTo 0 = .ok (.iconst 0, 1) := dk_3 (dk_at dksX6_numbersUpTo_0 0 rfl rfl)
theorem dX6_numbersUpTo_1 : decode cX6_numbersUpTo 1 = .ok (.istore_n 2, 1) := dk_61 (dk_at dksX6_numbersUpTo_0 1 rfl rfl)
theorem dX6_numbersUpTo_2 : decode cX6_numbersUpTo 2 = .ok (.iconst 0, 1) := dk_3 (dk_at dksX6_numbersUpTo_0 2 rfl rfl)
theorem dX6_numbersUpTo_3 : decode cX6_numbersUpTo 3 = .ok (.istore_n 3, 1) := dk_62 (dk_at dksX6_numbersUpTo_0 3 rfl rfl)
theorem dX6_numbersUpTo_4 : decode cX6_numbersUpTo 4 = .ok (.iload_n 3, 1) := dk_29 (dk_at dksX6_numbersUpTo_0 4 rfl rfl)
theorem dX6_numbersUpTo_5 : decode cX6_numbersUpTo 5 = .ok (.aload_n 0, 1) := dk_42 (dk_at dksX6_numbersUpTo_0 5 rfl rfl)
theorem dX6_numbersUpTo_6 : decode cX6_numbersUpTo 6 = .ok (.getfield 118, 3) := dk_180 0 118 (dk_at dksX6_numbersUpTo_0 6 rfl rfl)
theorem dX6_numbersUpTo_9 : decode cX6_numbersUpTo 9 = .ok (.if_icmp .ge 26, 3) := dk_162 0 26 (dk_at dksX6_numbersUpTo_0 9 rfl rfl)
theorem dX6_numbersUpTo_12 : decode cX6_numbersUpTo 12 = .ok (.iload_n 2, 1) := dk_28 (dk_at dksX6_numbersUpTo_0 12 rfl rfl)
theorem dX6_numbersUpTo_13 : decode cX6_numbersUpTo 13 = .ok (.aload_n 0, 1) := dk_42 (dk_at dksX6_numbersUpTo_0 13 rfl rfl)
theorem dX6_numbersUpTo_14 : decode cX6_numbersUpTo 14 = .ok (.getfield 13, 3) := dk_180 0 13 (dk_at dksX6_numbersUpTo_0 14 rfl rfl)
theorem dX6_numbersUpTo_17 : decode cX6_numbersUpTo 17 = .ok (.iload_n 3, 1) := dk_29 (dk_at dksX6_numbersUpTo_0 17 rfl rfl)
theorem dX6_numbersUpTo_18 : decode cX6_numbersUpTo 18 = .ok (.iaload, 1) := dk_46 (dk_at dksX6_numbersUpTo_0 18 rfl rfl)
theorem dX6_numbersUpTo_19 : decode cX6_numbersUpTo 19 = .ok (.ifCond .ne 7, 3) := dk_154 0 7 (dk_at dksX6_numbersUpTo_0 19 rfl rfl)
theorem dX6_numbersUpTo_22 : decode cX6_numbersUpTo 22 = .ok (.iconst 1, 1) := dk_4 (dk_at dksX6_numbersUpTo_0 22 rfl rfl)
theorem dX6_numbersUpTo_23 : decode cX6_numbersUpTo 23 = .ok (.goto 4, 3) := dk_167 0 4 (dk_at dksX6_numbersUpTo_1 0 rfl rfl)
theorem dX6_numbersUpTo_26 : decode cX6_numbersUpTo 26 = .ok (.iconst 0, 1) := dk_3 (dk_at dksX6_numbersUpTo_1 3 rfl rfl)
theorem dX6_numbersUpTo_27 : decode cX6_numbersUpTo 27 = .ok (.iadd, 1) := dk_96 (dk_at dksX6_numbersUpTo_1 4 rfl rfl)
theorem dX6_numbersUpTo_28 : decode cX6_numbersUpTo 28 = .ok (.istore_n 2, 1) := dk_61 (dk_at dksX6_numbersUpTo_1 5 rfl rfl)
theorem dX6_numbersUpTo_29 : decode cX6_numbersUpTo 29 = .ok (.iinc 3 1, 3) := dk_132 3 1 (dk_at dksX6_numbersUpTo_1 6 rfl rfl)
theorem dX6_numbersUpTo_32 : decode cX6_numbersUpTo 32 = .ok (.goto (-28), 3) := dk_167 255 228 (dk_at dksX6_numbersUpTo_1 9 rfl rfl)
theorem dX6_numbersUpTo_35 : decode cX6_numbersUpTo 35 = .ok (.iload_n 2, 1) := dk_28 (dk_at dksX6_numbersUpTo_1 12 rfl rfl)
theorem dX6_numbersUpTo_36 : decode cX6_numbersUpTo 36 = .ok (.iload_n 1, 1) := dk_27 (dk_at dksX6_numbersUpTo_1 13 rfl rfl)
theorem dX6_numbersUpTo_37 : decode cX6_numbersUpTo 37 = .ok (.if_icmp .ge 7, 3) := dk_162 0 7 (dk_at dksX6_numbersUpTo_1 14 rfl rfl)
theorem dX6_numbersUpTo_40 : decode cX6_numbersUpTo 40 = .ok (.iload_n 2, 1) := dk_28 (dk_at dksX6_numbersUpTo_1 17 rfl rfl)
theorem dX6_numbersUpTo_41 : decode cX6_numbersUpTo 41 = .ok (.goto 4, 3) := dk_167 0 4 (dk_at dksX6_numbersUpTo_1 18 rfl rfl)
theorem dX6_numbersUpTo_44 : decode cX6_numbersUpTo 44 = .ok (.iload_n 1, 1) := dk_27 (dk_at dksX6_numbersUpTo_1 21 rfl rfl)
theorem dX6_numbersUpTo_45 : decode cX6_numbersUpTo 45 = .ok (.ireturn, 1) := dk_172 (dk_at dksX6_numbersUpTo_1 22 rfl rfl)
abbrev cX6_losesSome : ByteArray := prog_25_method_101_code
def yX6_losesSome : MethodName := ⟨RX6, "losesSome", "(I)V"⟩
def dkwX6_losesSome_2 : List UInt8 := [180, 0, 16, 29, 3, 79, 132, 2, 1, 132, 3, 1, 167, 255, 202, 42, 182, 0, 125, 177]
abbrev dktX6_losesSome_2 : List UInt8 := dkwX6_losesSome_2 ++ []
def dkwX6_losesSome_1 : List UInt8 := [28, 16, 6, 162, 0, 25, 27, 28, 184, 1, 39, 153, 0, 17, 42, 180, 0, 13, 29, 4, 79, 42]
abbrev dktX6_losesSome_1 : List UInt8 := dkwX6_losesSome_1 ++ dktX6_losesSome_2
def dkwX6_losesSome_0 : List UInt8 := [3, 61, 3, 62, 29, 42, 180, 0, 118, 162, 0, 52, 42, 180, 0, 13, 29, 46, 153, 0, 6, 167, 0, 34]
abbrev dktX6_losesSome_0 : List UInt8 := dkwX6_losesSome_0 ++ dktX6_losesSome_1
theorem dksX6_losesSome_0 : cX6_losesSome.data.toList.drop 0 = dktX6_losesSome_0 := by decide +kernel
theorem dksX6_losesSome_1 : cX6_losesSome.data.toList.drop 24 = dktX6_losesSome_1 := dk_seg dksX6_losesSome_0 24 rfl rfl
theorem dksX6_losesSome_2 : cX6_losesSome.data.toList.drop 46 = dktX6_losesSome_2 := dk_seg dksX6_losesSome_1 22 rfl rfl
theorem dX6_losesSome_0 : decode cX6_losesSome 0 = .ok (.iconst 0, 1) := dk_3 (dk_at dksX6_losesSome_0 0 rfl rfl)
theorem dX6_losesSome_1 : decode cX6_losesSome 1 = .ok (.istore_n 2, 1) := dk_61 (dk_at dksX6_losesSome_0 1 rfl rfl)
theorem dX6_losesSome_2 : decode cX6_losesSome 2 = .ok (.iconst 0, 1) := dk_3 (dk_at dksX6_losesSome_0 2 rfl rfl)
theorem dX6_losesSome_3 : decode cX6_losesSome 3 = .ok (.istore_n 3, 1) := dk_62 (dk_at dksX6_losesSome_0 3 rfl rfl)
theorem dX6_losesSome_4 : decode cX6_losesSome 4 = .ok (.iload_n 3, 1) := dk_29 (dk_at dksX6_losesSome_0 4 rfl rfl)
theorem dX6_losesSome_5 : decode cX6_losesSome 5 = .ok (.aload_n 0, 1) := dk_42 (dk_at dksX6_losesSome_0 5 rfl rfl)
theorem dX6_losesSome_6 : decode cX6_losesSome 6 = .ok (.getfield 118, 3) := dk_180 0 118 (dk_at dksX6_losesSome_0 6 rfl rfl)
theorem dX6_losesSome_9 : decode cX6_losesSome 9 = .ok (.if_icmp .ge 52, 3) := dk_162 0 52 (dk_at dksX6_losesSome_0 9 rfl rfl)
theorem dX6_losesSome_12 : decode cX6_losesSome 12 = .ok (.aload_n 0, 1) := dk_42 (dk_at dksX6_losesSome_0 12 rfl rfl)
theorem dX6_losesSome_13 : decode cX6_losesSome 13 = .ok (.getfield 13, 3) := dk_180 0 13 (dk_at dksX6_losesSome_0 13 rfl rfl)
theorem dX6_losesSome_16 : decode cX6_losesSome 16 = .ok (.iload_n 3, 1) := dk_29 (dk_at dksX6_losesSome_0 16 rfl rfl)
theorem dX6_losesSome_17 : decode cX6_losesSome 17 = .ok (.iaload, 1) := dk_46 (dk_at dksX6_losesSome_0 17 rfl rfl)
theorem dX6_losesSome_18 : decode cX6_losesSome 18 = .ok (.ifCond .eq 6, 3) := dk_153 0 6 (dk_at dksX6_losesSome_0 18 rfl rfl)
theorem dX6_losesSome_21 : decode cX6_losesSome 21 = .ok (.goto 34, 3) := dk_167 0 34 (dk_at dksX6_losesSome_0 21 rfl rfl)
theorem dX6_losesSome_24 : decode cX6_losesSome 24 = .ok (.iload_n 2, 1) := dk_28 (dk_at dksX6_losesSome_1 0 rfl rfl)
theorem dX6_losesSome_25 : decode cX6_losesSome 25 = .ok (.bipush 6, 2) := dk_16 6 (dk_at dksX6_losesSome_1 1 rfl rfl)
theorem dX6_losesSome_27 : decode cX6_losesSome 27 = .ok (.if_icmp .ge 25, 3) := dk_162 0 25 (dk_at dksX6_losesSome_1 3 rfl rfl)
theorem dX6_losesSome_30 : decode cX6_losesSome 30 = .ok (.iload_n 1, 1) := dk_27 (dk_at dksX6_losesSome_1 6 rfl rfl)
theorem dX6_losesSome_31 : decode cX6_losesSome 31 = .ok (.iload_n 2, 1) := dk_28 (dk_at dksX6_losesSome_1 7 rfl rfl)
theorem dX6_losesSome_32 : decode cX6_losesSome 32 = .ok (.invokestatic 295, 3) := dk_184 1 39 (dk_at dksX6_losesSome_1 8 rfl rfl)
theorem dX6_losesSome_35 : decode cX6_losesSome 35 = .ok (.ifCond .eq 17, 3) := dk_153 0 17 (dk_at dksX6_losesSome_1 11 rfl rfl)
theorem dX6_losesSome_38 : decode cX6_losesSome 38 = .ok (.aload_n 0, 1) := dk_42 (dk_at dksX6_losesSome_1 14 rfl rfl)
theorem dX6_losesSome_39 : decode cX6_losesSome 39 = .ok (.getfield 13, 3) := dk_180 0 13 (dk_at dksX6_losesSome_1 15 rfl rfl)
theorem dX6_losesSome_42 : decode cX6_losesSome 42 = .ok (.iload_n 3, 1) := dk_29 (dk_at dksX6_losesSome_1 18 rfl rfl)
theorem dX6_losesSome_43 : decode cX6_losesSome 43 = .ok (.iconst 1, 1) := dk_4 (dk_at dksX6_losesSome_1 19 rfl rfl)
theorem dX6_losesSome_44 : decode cX6_losesSome 44 = .ok (.iastore, 1) := dk_79 (dk_at dksX6_losesSome_1 20 rfl rfl)
theorem dX6_losesSome_45 : decode cX6_losesSome 45 = .ok (.aload_n 0, 1) := dk_42 (dk_at dksX6_losesSome_1 21 rfl rfl)
theorem dX6_losesSome_46 : decode cX6_losesSome 46 = .ok (.getfield 16, 3) := dk_180 0 16 (dk_at dksX6_losesSome_2 0 rfl rfl)
theorem dX6_losesSome_49 : decode cX6_losesSome 49 = .ok (.iload_n 3, 1) := dk_29 (dk_at dksX6_losesSome_2 3 rfl rfl)
theorem dX6_losesSome_50 : decode cX6_losesSome 50 = .ok (.iconst 0, 1) := dk_3 (dk_at dksX6_losesSome_2 4 rfl rfl)
theorem dX6_losesSome_51 : decode cX6_losesSome 51 = .ok (.iastore, 1) := dk_79 (dk_at dksX6_losesSome_2 5 rfl rfl)
theorem dX6_losesSome_52 : decode cX6_losesSome 52 = .ok (.iinc 2 1, 3) := dk_132 2 1 (dk_at dksX6_losesSome_2 6 rfl rfl)
theorem dX6_losesSome_55 : decode cX6_losesSome 55 = .ok (.iinc 3 1, 3) := dk_132 3 1 (dk_at dksX6_losesSome_2 9 rfl rfl)
theorem dX6_losesSome_58 : decode cX6_losesSome 58 = .ok (.goto (-54), 3) := dk_167 255 202 (dk_at dksX6_losesSome_2 12 rfl rfl)
theorem dX6_losesSome_61 : decode cX6_losesSome 61 = .ok (.aload_n 0, 1) := dk_42 (dk_at dksX6_losesSome_2 15 rfl rfl)
theorem dX6_losesSome_62 : decode cX6_losesSome 62 = .ok (.invokevirtual 125, 3) := dk_182 0 125 (dk_at dksX6_losesSome_2 16 rfl rfl)
theorem dX6_losesSome_65 : decode cX6_losesSome 65 = .ok (.return_, 1) := dk_177 (dk_at dksX6_losesSome_2 19 rfl rfl)
abbrev cX6_partOf : ByteArray := prog_25_method_99_code
def yX6_partOf : MethodName := ⟨RX6, "partOf", "(JJI)J"⟩
def dkwX6_partOf_0 : List UInt8 := [21, 4, 154, 0, 7, 30, 167, 0, 4, 32, 30, 32, 184, 1, 145, 109, 173]
abbrev dktX6_partOf_0 : List UInt8 := dkwX6_partOf_0 ++ []
theorem dksX6_partOf_0 : cX6_partOf.data.toList.drop 0 = dktX6_partOf_0 := by decide +kernel
theorem dX6_partOf_0 : decode cX6_partOf 0 = .ok (.iload 4, 2) := dk_21 4 (dk_at dksX6_partOf_0 0 rfl rfl)
theorem dX6_partOf_2 : decode cX6_partOf 2 = .ok (.ifCond .ne 7, 3) := dk_154 0 7 (dk_at dksX6_partOf_0 2 rfl rfl)
theorem dX6_partOf_5 : decode cX6_partOf 5 = .ok (.lload_n 0, 1) := dk_30 (dk_at dksX6_partOf_0 5 rfl rfl)
theorem dX6_partOf_6 : decode cX6_partOf 6 = .ok (.goto 4, 3) := dk_167 0 4 (dk_at dksX6_partOf_0 6 rfl rfl)
theorem dX6_partOf_9 : decode cX6_partOf 9 = .ok (.lload_n 2, 1) := dk_32 (dk_at dksX6_partOf_0 9 rfl rfl)
theorem dX6_partOf_10 : decode cX6_partOf 10 = .ok (.lload_n 0, 1) := dk_30 (dk_at dksX6_partOf_0 10 rfl rfl)
theorem dX6_partOf_11 : decode cX6_partOf 11 = .ok (.lload_n 2, 1) := dk_32 (dk_at dksX6_partOf_0 11 rfl rfl)
theorem dX6_partOf_12 : decode cX6_partOf 12 = .ok (.invokestatic 401, 3) := dk_184 1 145 (dk_at dksX6_partOf_0 12 rfl rfl)
theorem dX6_partOf_15 : decode cX6_partOf 15 = .ok (.ldiv, 1) := dk_109 (dk_at dksX6_partOf_0 15 rfl rfl)
theorem dX6_partOf_16 : decode cX6_partOf 16 = .ok (.lreturn, 1) := dk_173 (dk_at dksX6_partOf_0 16 rfl rfl)
abbrev cX6_divisor : ByteArray := prog_25_method_98_code
def yX6_divisor : MethodName := ⟨RX6, "divisor", "(JJ)J"⟩
def dkwX6_divisor_1 : List UInt8 := [22, 8, 55, 6, 167, 255, 234, 22, 4, 173]
abbrev dktX6_divisor_1 : List UInt8 := dkwX6_divisor_1 ++ []
def dkwX6_divisor_0 : List UInt8 := [30, 55, 4, 32, 55, 6, 22, 6, 9, 148, 153, 0, 21, 22, 4, 22, 6, 113, 55, 8, 22, 6, 55, 4]
abbrev dktX6_divisor_0 : List UInt8 := dkwX6_divisor_0 ++ dktX6_divisor_1
theorem dksX6_divisor_0 : cX6_divisor.data.toList.drop 0 = dktX6_divisor_0 := by decide +kernel
theorem dksX6_divisor_1 : cX6_divisor.data.toList.drop 24 = dktX6_divisor_1 := dk_seg dksX6_divisor_0 24 rfl rfl
theorem dX6_divisor_0 : decode cX6_divisor 0 = .ok (.lload_n 0, 1) := dk_30 (dk_at dksX6_divisor_0 0 rfl rfl)
theorem dX6_divisor_1 : decode cX6_divisor 1 = .ok (.lstore 4, 2) := dk_55 4 (dk_at dksX6_divisor_0 1 rfl rfl)
theorem dX6_divisor_3 : decode cX6_divisor 3 = .ok (.lload_n 2, 1) := dk_32 (dk_at dksX6_divisor_0 3 rfl rfl)
theorem dX6_divisor_4 : decode cX6_divisor 4 = .ok (.lstore 6, 2) := dk_55 6 (dk_at dksX6_divisor_0 4 rfl rfl)
theorem dX6_divisor_6 : decode cX6_divisor 6 = .ok (.lload 6, 2) := dk_22 6 (dk_at dksX6_divisor_0 6 rfl rfl)
theorem dX6_divisor_8 : decode cX6_divisor 8 = .ok (.lconst 0, 1) := dk_9 (dk_at dksX6_divisor_0 8 rfl rfl)
theorem dX6_divisor_9 : decode cX6_divisor 9 = .ok (.lcmp, 1) := dk_148 (dk_at dksX6_divisor_0 9 rfl rfl)
theorem dX6_divisor_10 : decode cX6_divisor 10 = .ok (.ifCond .eq 21, 3) := dk_153 0 21 (dk_at dksX6_divisor_0 10 rfl rfl)
theorem dX6_divisor_13 : decode cX6_divisor 13 = .ok (.lload 4, 2) := dk_22 4 (dk_at dksX6_divisor_0 13 rfl rfl)
theorem dX6_divisor_15 : decode cX6_divisor 15 = .ok (.lload 6, 2) := dk_22 6 (dk_at dksX6_divisor_0 15 rfl rfl)
theorem dX6_divisor_17 : decode cX6_divisor 17 = .ok (.lrem, 1) := dk_113 (dk_at dksX6_divisor_0 17 rfl rfl)
theorem dX6_divisor_18 : decode cX6_divisor 18 = .ok (.lstore 8, 2) := dk_55 8 (dk_at dksX6_divisor_0 18 rfl rfl)
theorem dX6_divisor_20 : decode cX6_divisor 20 = .ok (.lload 6, 2) := dk_22 6 (dk_at dksX6_divisor_0 20 rfl rfl)
theorem dX6_divisor_22 : decode cX6_divisor 22 = .ok (.lstore 4, 2) := dk_55 4 (dk_at dksX6_divisor_0 22 rfl rfl)
theorem dX6_divisor_24 : decode cX6_divisor 24 = .ok (.lload 8, 2) := dk_22 8 (dk_at dksX6_divisor_1 0 rfl rfl)
theorem dX6_divisor_26 : decode cX6_divisor 26 = .ok (.lstore 6, 2) := dk_55 6 (dk_at dksX6_divisor_1 2 rfl rfl)
theorem dX6_divisor_28 : decode cX6_divisor 28 = .ok (.goto (-22), 3) := dk_167 255 234 (dk_at dksX6_divisor_1 4 rfl rfl)
theorem dX6_divisor_31 : decode cX6_divisor 31 = .ok (.lload 4, 2) := dk_22 4 (dk_at dksX6_divisor_1 7 rfl rfl)
theorem dX6_divisor_33 : decode cX6_divisor 33 = .ok (.lreturn, 1) := dk_173 (dk_at dksX6_divisor_1 9 rfl rfl)
abbrev cX6_mean : ByteArray := prog_25_method_103_code
def yX6_mean : MethodName := ⟨RX6, "mean", "(I)J"⟩
def dkwX6_mean_1 : List UInt8 := [180, 0, 118, 133, 27, 184, 1, 159, 173]
abbrev dktX6_mean_1 : List UInt8 := dkwX6_mean_1 ++ []
def dkwX6_mean_0 : List UInt8 := [27, 3, 4, 184, 0, 213, 154, 0, 10, 42, 16, 254, 182, 1, 149, 173, 42, 182, 1, 120, 133, 42]
abbrev dktX6_mean_0 : List UInt8 := dkwX6_mean_0 ++ dktX6_mean_1
theorem dksX6_mean_0 : cX6_mean.data.toList.drop 0 = dktX6_mean_0 := by decide +kernel
theorem dksX6_mean_1 : cX6_mean.data.toList.drop 22 = dktX6_mean_1 := dk_seg dksX6_mean_0 22 rfl rfl
theorem dX6_mean_0 : decode cX6_mean 0 = .ok (.iload_n 1, 1) := dk_27 (dk_at dksX6_mean_0 0 rfl rfl)
theorem dX6_mean_1 : decode cX6_mean 1 = .ok (.iconst 0, 1) := dk_3 (dk_at dksX6_mean_0 1 rfl rfl)
theorem dX6_mean_2 : decode cX6_mean 2 = .ok (.iconst 1, 1) := dk_4 (dk_at dksX6_mean_0 2 rfl rfl)
theorem dX6_mean_3 : decode cX6_mean 3 = .ok (.invokestatic 213, 3) := dk_184 0 213 (dk_at dksX6_mean_0 3 rfl rfl)
theorem dX6_mean_6 : decode cX6_mean 6 = .ok (.ifCond .ne 10, 3) := dk_154 0 10 (dk_at dksX6_mean_0 6 rfl rfl)
theorem dX6_mean_9 : decode cX6_mean 9 = .ok (.aload_n 0, 1) := dk_42 (dk_at dksX6_mean_0 9 rfl rfl)
theorem dX6_mean_10 : decode cX6_mean 10 = .ok (.bipush (-2), 2) := dk_16 254 (dk_at dksX6_mean_0 10 rfl rfl)
theorem dX6_mean_12 : decode cX6_mean 12 = .ok (.invokevirtual 405, 3) := dk_182 1 149 (dk_at dksX6_mean_0 12 rfl rfl)
theorem dX6_mean_15 : decode cX6_mean 15 = .ok (.lreturn, 1) := dk_173 (dk_at dksX6_mean_0 15 rfl rfl)
theorem dX6_mean_16 : decode cX6_mean 16 = .ok (.aload_n 0, 1) := dk_42 (dk_at dksX6_mean_0 16 rfl rfl)
theorem dX6_mean_17 : decode cX6_mean 17 = .ok (.invokevirtual 376, 3) := dk_182 1 120 (dk_at dksX6_mean_0 17 rfl rfl)
theorem dX6_mean_20 : decode cX6_mean 20 = .ok (.i2l, 1) := dk_133 (dk_at dksX6_mean_0 20 rfl rfl)
theorem dX6_mean_21 : decode cX6_mean 21 = .ok (.aload_n 0, 1) := dk_42 (dk_at dksX6_mean_0 21 rfl rfl)
theorem dX6_mean_22 : decode cX6_mean 22 = .ok (.getfield 118, 3) := dk_180 0 118 (dk_at dksX6_mean_1 0 rfl rfl)
theorem dX6_mean_25 : decode cX6_mean 25 = .ok (.i2l, 1) := dk_133 (dk_at dksX6_mean_1 3 rfl rfl)
theorem dX6_mean_26 : decode cX6_mean 26 = .ok (.iload_n 1, 1) := dk_27 (dk_at dksX6_mean_1 4 rfl rfl)
theorem dX6_mean_27 : decode cX6_mean 27 = .ok (.invokestatic 415, 3) := dk_184 1 159 (dk_at dksX6_mean_1 5 rfl rfl)
theorem dX6_mean_30 : decode cX6_mean 30 = .ok (.lreturn, 1) := dk_173 (dk_at dksX6_mean_1 8 rfl rfl)
abbrev cX6_which : ByteArray := prog_25_method_105_code
def yX6_which : MethodName := ⟨RX6, "which", "(I)I"⟩
def dkwX6_which_2 : List UInt8 := [120, 167, 0, 4, 3, 128, 62, 132, 4, 1, 167, 255, 220, 29, 172]
abbrev dktX6_which_2 : List UInt8 := dkwX6_which_2 ++ []
def dkwX6_which_1 : List UInt8 := [16, 16, 162, 0, 35, 42, 28, 21, 4, 182, 1, 142, 87, 29, 42, 182, 1, 166, 153, 0, 10, 4, 21, 4]
abbrev dktX6_which_1 : List UInt8 := dkwX6_which_1 ++ dktX6_which_2
def dkwX6_which_0 : List UInt8 := [42, 27, 182, 0, 146, 61, 28, 156, 0, 9, 42, 2, 182, 0, 253, 172, 3, 62, 3, 54, 4, 21, 4]
abbrev dktX6_which_0 : List UInt8 := dkwX6_which_0 ++ dktX6_which_1
theorem dksX6_which_0 : cX6_which.data.toList.drop 0 = dktX6_which_0 := by decide +kernel
theorem dksX6_which_1 : cX6_which.data.toList.drop 23 = dktX6_which_1 := dk_seg dksX6_which_0 23 rfl rfl
theorem dksX6_which_2 : cX6_which.data.toList.drop 47 = dktX6_which_2 := dk_seg dksX6_which_1 24 rfl rfl
theorem dX6_which_0 : decode cX6_which 0 = .ok (.aload_n 0, 1) := dk_42 (dk_at dksX6_which_0 0 rfl rfl)
theorem dX6_which_1 : decode cX6_which 1 = .ok (.iload_n 1, 1) := dk_27 (dk_at dksX6_which_0 1 rfl rfl)
theorem dX6_which_2 : decode cX6_which 2 = .ok (.invokevirtual 146, 3) := dk_182 0 146 (dk_at dksX6_which_0 2 rfl rfl)
theorem dX6_which_5 : decode cX6_which 5 = .ok (.istore_n 2, 1) := dk_61 (dk_at dksX6_which_0 5 rfl rfl)
theorem dX6_which_6 : decode cX6_which 6 = .ok (.iload_n 2, 1) := dk_28 (dk_at dksX6_which_0 6 rfl rfl)
theorem dX6_which_7 : decode cX6_which 7 = .ok (.ifCond .ge 9, 3) := dk_156 0 9 (dk_at dksX6_which_0 7 rfl rfl)
theorem dX6_which_10 : decode cX6_which 10 = .ok (.aload_n 0, 1) := dk_42 (dk_at dksX6_which_0 10 rfl rfl)
theorem dX6_which_11 : decode cX6_which 11 = .ok (.iconst (-1), 1) := dk_2 (dk_at dksX6_which_0 11 rfl rfl)
theorem dX6_which_12 : decode cX6_which 12 = .ok (.invokevirtual 253, 3) := dk_182 0 253 (dk_at dksX6_which_0 12 rfl rfl)
theorem dX6_which_15 : decode cX6_which 15 = .ok (.ireturn, 1) := dk_172 (dk_at dksX6_which_0 15 rfl rfl)
theorem dX6_which_16 : decode cX6_which 16 = .ok (.iconst 0, 1) := dk_3 (dk_at dksX6_which_0 16 rfl rfl)
theorem dX6_which_17 : decode cX6_which 17 = .ok (.istore_n 3, 1) := dk_62 (dk_at dksX6_which_0 17 rfl rfl)
theorem dX6_which_18 : decode cX6_which 18 = .ok (.iconst 0, 1) := dk_3 (dk_at dksX6_which_0 18 rfl rfl)
theorem dX6_which_19 : decode cX6_which 19 = .ok (.istore 4, 2) := dk_54 4 (dk_at dksX6_which_0 19 rfl rfl)
theorem dX6_which_21 : decode cX6_which 21 = .ok (.iload 4, 2) := dk_21 4 (dk_at dksX6_which_0 21 rfl rfl)
theorem dX6_which_23 : decode cX6_which 23 = .ok (.bipush 16, 2) := dk_16 16 (dk_at dksX6_which_1 0 rfl rfl)
theorem dX6_which_25 : decode cX6_which 25 = .ok (.if_icmp .ge 35, 3) := dk_162 0 35 (dk_at dksX6_which_1 2 rfl rfl)
theorem dX6_which_28 : decode cX6_which 28 = .ok (.aload_n 0, 1) := dk_42 (dk_at dksX6_which_1 5 rfl rfl)
theorem dX6_which_29 : decode cX6_which 29 = .ok (.iload_n 2, 1) := dk_28 (dk_at dksX6_which_1 6 rfl rfl)
theorem dX6_which_30 : decode cX6_which 30 = .ok (.iload 4, 2) := dk_21 4 (dk_at dksX6_which_1 7 rfl rfl)
theorem dX6_which_32 : decode cX6_which 32 = .ok (.invokevirtual 398, 3) := dk_182 1 142 (dk_at dksX6_which_1 9 rfl rfl)
theorem dX6_which_35 : decode cX6_which 35 = .ok (.pop, 1) := dk_87 (dk_at dksX6_which_1 12 rfl rfl)
theorem dX6_which_36 : decode cX6_which 36 = .ok (.iload_n 3, 1) := dk_29 (dk_at dksX6_which_1 13 rfl rfl)
theorem dX6_which_37 : decode cX6_which 37 = .ok (.aload_n 0, 1) := dk_42 (dk_at dksX6_which_1 14 rfl rfl)
theorem dX6_which_38 : decode cX6_which 38 = .ok (.invokevirtual 422, 3) := dk_182 1 166 (dk_at dksX6_which_1 15 rfl rfl)
theorem dX6_which_41 : decode cX6_which 41 = .ok (.ifCond .eq 10, 3) := dk_153 0 10 (dk_at dksX6_which_1 18 rfl rfl)
theorem dX6_which_44 : decode cX6_which 44 = .ok (.iconst 1, 1) := dk_4 (dk_at dksX6_which_1 21 rfl rfl)
theorem dX6_which_45 : decode cX6_which 45 = .ok (.iload 4, 2) := dk_21 4 (dk_at dksX6_which_1 22 rfl rfl)
theorem dX6_which_47 : decode cX6_which 47 = .ok (.ishl, 1) := dk_120 (dk_at dksX6_which_2 0 rfl rfl)
theorem dX6_which_48 : decode cX6_which 48 = .ok (.goto 4, 3) := dk_167 0 4 (dk_at dksX6_which_2 1 rfl rfl)
theorem dX6_which_51 : decode cX6_which 51 = .ok (.iconst 0, 1) := dk_3 (dk_at dksX6_which_2 4 rfl rfl)
theorem dX6_which_52 : decode cX6_which 52 = .ok (.ior, 1) := dk_128 (dk_at dksX6_which_2 5 rfl rfl)
theorem dX6_which_53 : decode cX6_which 53 = .ok (.istore_n 3, 1) := dk_62 (dk_at dksX6_which_2 6 rfl rfl)
theorem dX6_which_54 : decode cX6_which 54 = .ok (.iinc 4 1, 3) := dk_132 4 1 (dk_at dksX6_which_2 7 rfl rfl)
theorem dX6_which_57 : decode cX6_which 57 = .ok (.goto (-36), 3) := dk_167 255 220 (dk_at dksX6_which_2 10 rfl rfl)
theorem dX6_which_60 : decode cX6_which 60 = .ok (.iload_n 3, 1) := dk_29 (dk_at dksX6_which_2 13 rfl rfl)
theorem dX6_which_61 : decode cX6_which 61 = .ok (.ireturn, 1) := dk_172 (dk_at dksX6_which_2 14 rfl rfl)
abbrev cX6_isCodedSo : ByteArray := prog_25_method_104_code
def yX6_isCodedSo : MethodName := ⟨RX6, "isCodedSo", "()Z"⟩
def dkwX6_isCodedSo_1 : List UInt8 := [42, 180, 0, 115, 27, 46, 159, 0, 5, 3, 172, 132, 1, 1, 167, 255, 220, 4, 172]
abbrev dktX6_isCodedSo_1 : List UInt8 := dkwX6_isCodedSo_1 ++ []
def dkwX6_isCodedSo_0 : List UInt8 := [3, 60, 27, 42, 180, 1, 163, 162, 0, 34, 27, 42, 180, 0, 159, 162, 0, 18, 42, 180, 0, 70, 27, 46]
abbrev dktX6_isCodedSo_0 : List UInt8 := dkwX6_isCodedSo_0 ++ dktX6_isCodedSo_1
theorem dksX6_isCodedSo_0 : cX6_isCodedSo.data.toList.drop 0 = dktX6_isCodedSo_0 := by decide +kernel
theorem dksX6_isCodedSo_1 : cX6_isCodedSo.data.toList.drop 24 = dktX6_isCodedSo_1 := dk_seg dksX6_isCodedSo_0 24 rfl rfl
theorem dX6_isCodedSo_0 : decode cX6_isCodedSo 0 = .ok (.iconst 0, 1) := dk_3 (dk_at dksX6_isCodedSo_0 0 rfl rfl)
theorem dX6_isCodedSo_1 : decode cX6_isCodedSo 1 = .ok (.istore_n 1, 1) := dk_60 (dk_at dksX6_isCodedSo_0 1 rfl rfl)
theorem dX6_isCodedSo_2 : decode cX6_isCodedSo 2 = .ok (.iload_n 1, 1) := dk_27 (dk_at dksX6_isCodedSo_0 2 rfl rfl)
theorem dX6_isCodedSo_3 : decode cX6_isCodedSo 3 = .ok (.aload_n 0, 1) := dk_42 (dk_at dksX6_isCodedSo_0 3 rfl rfl)
theorem dX6_isCodedSo_4 : decode cX6_isCodedSo 4 = .ok (.getfield 419, 3) := dk_180 1 163 (dk_at dksX6_isCodedSo_0 4 rfl rfl)
theorem dX6_isCodedSo_7 : decode cX6_isCodedSo 7 = .ok (.if_icmp .ge 34, 3) := dk_162 0 34 (dk_at dksX6_isCodedSo_0 7 rfl rfl)
theorem dX6_isCodedSo_10 : decode cX6_isCodedSo 10 = .ok (.iload_n 1, 1) := dk_27 (dk_at dksX6_isCodedSo_0 10 rfl rfl)
theorem dX6_isCodedSo_11 : decode cX6_isCodedSo 11 = .ok (.aload_n 0, 1) := dk_42 (dk_at dksX6_isCodedSo_0 11 rfl rfl)
theorem dX6_isCodedSo_12 : decode cX6_isCodedSo 12 = .ok (.getfield 159, 3) := dk_180 0 159 (dk_at dksX6_isCodedSo_0 12 rfl rfl)
theorem dX6_isCodedSo_15 : decode cX6_isCodedSo 15 = .ok (.if_icmp .ge 18, 3) := dk_162 0 18 (dk_at dksX6_isCodedSo_0 15 rfl rfl)
theorem dX6_isCodedSo_18 : decode cX6_isCodedSo 18 = .ok (.aload_n 0, 1) := dk_42 (dk_at dksX6_isCodedSo_0 18 rfl rfl)
theorem dX6_isCodedSo_19 : decode cX6_isCodedSo 19 = .ok (.getfield 70, 3) := dk_180 0 70 (dk_at dksX6_isCodedSo_0 19 rfl rfl)
theorem dX6_isCodedSo_22 : decode cX6_isCodedSo 22 = .ok (.iload_n 1, 1) := dk_27 (dk_at dksX6_isCodedSo_0 22 rfl rfl)
theorem dX6_isCodedSo_23 : decode cX6_isCodedSo 23 = .ok (.iaload, 1) := dk_46 (dk_at dksX6_isCodedSo_0 23 rfl rfl)
theorem dX6_isCodedSo_24 : decode cX6_isCodedSo 24 = .ok (.aload_n 0, 1) := dk_42 (dk_at dksX6_isCodedSo_1 0 rfl rfl)
theorem dX6_isCodedSo_25 : decode cX6_isCodedSo 25 = .ok (.getfield 115, 3) := dk_180 0 115 (dk_at dksX6_isCodedSo_1 1 rfl rfl)
theorem dX6_isCodedSo_28 : decode cX6_isCodedSo 28 = .ok (.iload_n 1, 1) := dk_27 (dk_at dksX6_isCodedSo_1 4 rfl rfl)
theorem dX6_isCodedSo_29 : decode cX6_isCodedSo 29 = .ok (.iaload, 1) := dk_46 (dk_at dksX6_isCodedSo_1 5 rfl rfl)
theorem dX6_isCodedSo_30 : decode cX6_isCodedSo 30 = .ok (.if_icmp .eq 5, 3) := dk_159 0 5 (dk_at dksX6_isCodedSo_1 6 rfl rfl)
theorem dX6_isCodedSo_33 : decode cX6_isCodedSo 33 = .ok (.iconst 0, 1) := dk_3 (dk_at dksX6_isCodedSo_1 9 rfl rfl)
theorem dX6_isCodedSo_34 : decode cX6_isCodedSo 34 = .ok (.ireturn, 1) := dk_172 (dk_at dksX6_isCodedSo_1 10 rfl rfl)
theorem dX6_isCodedSo_35 : decode cX6_isCodedSo 35 = .ok (.iinc 1 1, 3) := dk_132 1 1 (dk_at dksX6_isCodedSo_1 11 rfl rfl)
theorem dX6_isCodedSo_38 : decode cX6_isCodedSo 38 = .ok (.goto (-36), 3) := dk_167 255 220 (dk_at dksX6_isCodedSo_1 14 rfl rfl)
theorem dX6_isCodedSo_41 : decode cX6_isCodedSo 41 = .ok (.iconst 1, 1) := dk_4 (dk_at dksX6_isCodedSo_1 17 rfl rfl)
theorem dX6_isCodedSo_42 : decode cX6_isCodedSo 42 = .ok (.ireturn, 1) := dk_172 (dk_at dksX6_isCodedSo_1 18 rfl rfl)
abbrev cX6_row : ByteArray := prog_25_method_106_code
def yX6_row : MethodName := ⟨RX6, "row", "(I)I"⟩
def dkwX6_row_2 : List UInt8 := [180, 1, 163, 4, 96, 181, 1, 163, 42, 180, 1, 163, 172]
abbrev dktX6_row_2 : List UInt8 := dkwX6_row_2 ++ []
def dkwX6_row_1 : List UInt8 := [28, 153, 0, 9, 42, 28, 182, 0, 253, 172, 42, 180, 0, 115, 42, 180, 1, 163, 27, 79, 42, 89]
abbrev dktX6_row_1 : List UInt8 := dkwX6_row_1 ++ dktX6_row_2
def dkwX6_row_0 : List UInt8 := [27, 3, 16, 99, 184, 0, 246, 61, 28, 154, 0, 15, 42, 180, 1, 163, 16, 32, 160, 0, 6, 16, 250, 61]
abbrev dktX6_row_0 : List UInt8 := dkwX6_row_0 ++ dktX6_row_1
theorem dksX6_row_0 : cX6_row.data.toList.drop 0 = dktX6_row_0 := by decide +kernel
theorem dksX6_row_1 : cX6_row.data.toList.drop 24 = dktX6_row_1 := dk_seg dksX6_row_0 24 rfl rfl
theorem dksX6_row_2 : cX6_row.data.toList.drop 46 = dktX6_row_2 := dk_seg dksX6_row_1 22 rfl rfl
theorem dX6_row_0 : decode cX6_row 0 = .ok (.iload_n 1, 1) := dk_27 (dk_at dksX6_row_0 0 rfl rfl)
theorem dX6_row_1 : decode cX6_row 1 = .ok (.iconst 0, 1) := dk_3 (dk_at dksX6_row_0 1 rfl rfl)
theorem dX6_row_2 : decode cX6_row 2 = .ok (.bipush 99, 2) := dk_16 99 (dk_at dksX6_row_0 2 rfl rfl)
theorem dX6_row_4 : decode cX6_row 4 = .ok (.invokestatic 246, 3) := dk_184 0 246 (dk_at dksX6_row_0 4 rfl rfl)
theorem dX6_row_7 : decode cX6_row 7 = .ok (.istore_n 2, 1) := dk_61 (dk_at dksX6_row_0 7 rfl rfl)
theorem dX6_row_8 : decode cX6_row 8 = .ok (.iload_n 2, 1) := dk_28 (dk_at dksX6_row_0 8 rfl rfl)
theorem dX6_row_9 : decode cX6_row 9 = .ok (.ifCond .ne 15, 3) := dk_154 0 15 (dk_at dksX6_row_0 9 rfl rfl)
theorem dX6_row_12 : decode cX6_row 12 = .ok (.aload_n 0, 1) := dk_42 (dk_at dksX6_row_0 12 rfl rfl)
theorem dX6_row_13 : decode cX6_row 13 = .ok (.getfield 419, 3) := dk_180 1 163 (dk_at dksX6_row_0 13 rfl rfl)
theorem dX6_row_16 : decode cX6_row 16 = .ok (.bipush 32, 2) := dk_16 32 (dk_at dksX6_row_0 16 rfl rfl)
theorem dX6_row_18 : decode cX6_row 18 = .ok (.if_icmp .ne 6, 3) := dk_160 0 6 (dk_at dksX6_row_0 18 rfl rfl)
theorem dX6_row_21 : decode cX6_row 21 = .ok (.bipush (-6), 2) := dk_16 250 (dk_at dksX6_row_0 21 rfl rfl)
theorem dX6_row_23 : decode cX6_row 23 = .ok (.istore_n 2, 1) := dk_61 (dk_at dksX6_row_0 23 rfl rfl)
theorem dX6_row_24 : decode cX6_row 24 = .ok (.iload_n 2, 1) := dk_28 (dk_at dksX6_row_1 0 rfl rfl)
theorem dX6_row_25 : decode cX6_row 25 = .ok (.ifCond .eq 9, 3) := dk_153 0 9 (dk_at dksX6_row_1 1 rfl rfl)
theorem dX6_row_28 : decode cX6_row 28 = .ok (.aload_n 0, 1) := dk_42 (dk_at dksX6_row_1 4 rfl rfl)
theorem dX6_row_29 : decode cX6_row 29 = .ok (.iload_n 2, 1) := dk_28 (dk_at dksX6_row_1 5 rfl rfl)
theorem dX6_row_30 : decode cX6_row 30 = .ok (.invokevirtual 253, 3) := dk_182 0 253 (dk_at dksX6_row_1 6 rfl rfl)
theorem dX6_row_33 : decode cX6_row 33 = .ok (.ireturn, 1) := dk_172 (dk_at dksX6_row_1 9 rfl rfl)
theorem dX6_row_34 : decode cX6_row 34 = .ok (.aload_n 0, 1) := dk_42 (dk_at dksX6_row_1 10 rfl rfl)
theorem dX6_row_35 : decode cX6_row 35 = .ok (.getfield 115, 3) := dk_180 0 115 (dk_at dksX6_row_1 11 rfl rfl)
theorem dX6_row_38 : decode cX6_row 38 = .ok (.aload_n 0, 1) := dk_42 (dk_at dksX6_row_1 14 rfl rfl)
theorem dX6_row_39 : decode cX6_row 39 = .ok (.getfield 419, 3) := dk_180 1 163 (dk_at dksX6_row_1 15 rfl rfl)
theorem dX6_row_42 : decode cX6_row 42 = .ok (.iload_n 1, 1) := dk_27 (dk_at dksX6_row_1 18 rfl rfl)
theorem dX6_row_43 : decode cX6_row 43 = .ok (.iastore, 1) := dk_79 (dk_at dksX6_row_1 19 rfl rfl)
theorem dX6_row_44 : decode cX6_row 44 = .ok (.aload_n 0, 1) := dk_42 (dk_at dksX6_row_1 20 rfl rfl)
theorem dX6_row_45 : decode cX6_row 45 = .ok (.dup, 1) := dk_89 (dk_at dksX6_row_1 21 rfl rfl)
theorem dX6_row_46 : decode cX6_row 46 = .ok (.getfield 419, 3) := dk_180 1 163 (dk_at dksX6_row_2 0 rfl rfl)
theorem dX6_row_49 : decode cX6_row 49 = .ok (.iconst 1, 1) := dk_4 (dk_at dksX6_row_2 3 rfl rfl)
theorem dX6_row_50 : decode cX6_row 50 = .ok (.iadd, 1) := dk_96 (dk_at dksX6_row_2 4 rfl rfl)
theorem dX6_row_51 : decode cX6_row 51 = .ok (.putfield 419, 3) := dk_181 1 163 (dk_at dksX6_row_2 5 rfl rfl)
theorem dX6_row_54 : decode cX6_row 54 = .ok (.aload_n 0, 1) := dk_42 (dk_at dksX6_row_2 8 rfl rfl)
theorem dX6_row_55 : decode cX6_row 55 = .ok (.getfield 419, 3) := dk_180 1 163 (dk_at dksX6_row_2 9 rfl rfl)
theorem dX6_row_58 : decode cX6_row 58 = .ok (.ireturn, 1) := dk_172 (dk_at dksX6_row_2 12 rfl rfl)
abbrev cX6_judge : ByteArray := prog_25_method_107_code
def yX6_judge : MethodName := ⟨RX6, "judge", "()I"⟩
def dkwX6_judge_2 : List UInt8 := [132, 2, 1, 167, 255, 223, 27, 42, 180, 0, 159, 162, 0, 7, 27, 167, 0, 5, 16, 247, 172]
abbrev dktX6_judge_2 : List UInt8 := dkwX6_judge_2 ++ []
def dkwX6_judge_1 : List UInt8 := [180, 0, 159, 162, 0, 18, 42, 180, 0, 70, 28, 46, 42, 180, 0, 115, 28, 46, 159, 0, 5, 28, 172]
abbrev dktX6_judge_1 : List UInt8 := dkwX6_judge_1 ++ dktX6_judge_2
def dkwX6_judge_0 : List UInt8 := [42, 180, 1, 163, 60, 42, 3, 181, 1, 163, 42, 182, 1, 117, 3, 61, 28, 27, 162, 0, 34, 28, 42]
abbrev dktX6_judge_0 : List UInt8 := dkwX6_judge_0 ++ dktX6_judge_1
theorem dksX6_judge_0 : cX6_judge.data.toList.drop 0 = dktX6_judge_0 := by decide +kernel
theorem dksX6_judge_1 : cX6_judge.data.toList.drop 23 = dktX6_judge_1 := dk_seg dksX6_judge_0 23 rfl rfl
theorem dksX6_judge_2 : cX6_judge.data.toList.drop 46 = dktX6_judge_2 := dk_seg dksX6_judge_1 23 rfl rfl
theorem dX6_judge_0 : decode cX6_judge 0 = .ok (.aload_n 0, 1) := dk_42 (dk_at dksX6_judge_0 0 rfl rfl)
theorem dX6_judge_1 : decode cX6_judge 1 = .ok (.getfield 419, 3) := dk_180 1 163 (dk_at dksX6_judge_0 1 rfl rfl)
theorem dX6_judge_4 : decode cX6_judge 4 = .ok (.istore_n 1, 1) := dk_60 (dk_at dksX6_judge_0 4 rfl rfl)
theorem dX6_judge_5 : decode cX6_judge 5 = .ok (.aload_n 0, 1) := dk_42 (dk_at dksX6_judge_0 5 rfl rfl)
theorem dX6_judge_6 : decode cX6_judge 6 = .ok (.iconst 0, 1) := dk_3 (dk_at dksX6_judge_0 6 rfl rfl)
theorem dX6_judge_7 : decode cX6_judge 7 = .ok (.putfield 419, 3) := dk_181 1 163 (dk_at dksX6_judge_0 7 rfl rfl)
theorem dX6_judge_10 : decode cX6_judge 10 = .ok (.aload_n 0, 1) := dk_42 (dk_at dksX6_judge_0 10 rfl rfl)
theorem dX6_judge_11 : decode cX6_judge 11 = .ok (.invokevirtual 373, 3) := dk_182 1 117 (dk_at dksX6_judge_0 11 rfl rfl)
theorem dX6_judge_14 : decode cX6_judge 14 = .ok (.iconst 0, 1) := dk_3 (dk_at dksX6_judge_0 14 rfl rfl)
theorem dX6_judge_15 : decode cX6_judge 15 = .ok (.istore_n 2, 1) := dk_61 (dk_at dksX6_judge_0 15 rfl rfl)
theorem dX6_judge_16 : decode cX6_judge 16 = .ok (.iload_n 2, 1) := dk_28 (dk_at dksX6_judge_0 16 rfl rfl)
theorem dX6_judge_17 : decode cX6_judge 17 = .ok (.iload_n 1, 1) := dk_27 (dk_at dksX6_judge_0 17 rfl rfl)
theorem dX6_judge_18 : decode cX6_judge 18 = .ok (.if_icmp .ge 34, 3) := dk_162 0 34 (dk_at dksX6_judge_0 18 rfl rfl)
theorem dX6_judge_21 : decode cX6_judge 21 = .ok (.iload_n 2, 1) := dk_28 (dk_at dksX6_judge_0 21 rfl rfl)
theorem dX6_judge_22 : decode cX6_judge 22 = .ok (.aload_n 0, 1) := dk_42 (dk_at dksX6_judge_0 22 rfl rfl)
theorem dX6_judge_23 : decode cX6_judge 23 = .ok (.getfield 159, 3) := dk_180 0 159 (dk_at dksX6_judge_1 0 rfl rfl)
theorem dX6_judge_26 : decode cX6_judge 26 = .ok (.if_icmp .ge 18, 3) := dk_162 0 18 (dk_at dksX6_judge_1 3 rfl rfl)
theorem dX6_judge_29 : decode cX6_judge 29 = .ok (.aload_n 0, 1) := dk_42 (dk_at dksX6_judge_1 6 rfl rfl)
theorem dX6_judge_30 : decode cX6_judge 30 = .ok (.getfield 70, 3) := dk_180 0 70 (dk_at dksX6_judge_1 7 rfl rfl)
theorem dX6_judge_33 : decode cX6_judge 33 = .ok (.iload_n 2, 1) := dk_28 (dk_at dksX6_judge_1 10 rfl rfl)
theorem dX6_judge_34 : decode cX6_judge 34 = .ok (.iaload, 1) := dk_46 (dk_at dksX6_judge_1 11 rfl rfl)
theorem dX6_judge_35 : decode cX6_judge 35 = .ok (.aload_n 0, 1) := dk_42 (dk_at dksX6_judge_1 12 rfl rfl)
theorem dX6_judge_36 : decode cX6_judge 36 = .ok (.getfield 115, 3) := dk_180 0 115 (dk_at dksX6_judge_1 13 rfl rfl)
theorem dX6_judge_39 : decode cX6_judge 39 = .ok (.iload_n 2, 1) := dk_28 (dk_at dksX6_judge_1 16 rfl rfl)
theorem dX6_judge_40 : decode cX6_judge 40 = .ok (.iaload, 1) := dk_46 (dk_at dksX6_judge_1 17 rfl rfl)
theorem dX6_judge_41 : decode cX6_judge 41 = .ok (.if_icmp .eq 5, 3) := dk_159 0 5 (dk_at dksX6_judge_1 18 rfl rfl)
theorem dX6_judge_44 : decode cX6_judge 44 = .ok (.iload_n 2, 1) := dk_28 (dk_at dksX6_judge_1 21 rfl rfl)
theorem dX6_judge_45 : decode cX6_judge 45 = .ok (.ireturn, 1) := dk_172 (dk_at dksX6_judge_1 22 rfl rfl)
theorem dX6_judge_46 : decode cX6_judge 46 = .ok (.iinc 2 1, 3) := dk_132 2 1 (dk_at dksX6_judge_2 0 rfl rfl)
theorem dX6_judge_49 : decode cX6_judge 49 = .ok (.goto (-33), 3) := dk_167 255 223 (dk_at dksX6_judge_2 3 rfl rfl)
theorem dX6_judge_52 : decode cX6_judge 52 = .ok (.iload_n 1, 1) := dk_27 (dk_at dksX6_judge_2 6 rfl rfl)
theorem dX6_judge_53 : decode cX6_judge 53 = .ok (.aload_n 0, 1) := dk_42 (dk_at dksX6_judge_2 7 rfl rfl)
theorem dX6_judge_54 : decode cX6_judge 54 = .ok (.getfield 159, 3) := dk_180 0 159 (dk_at dksX6_judge_2 8 rfl rfl)
theorem dX6_judge_57 : decode cX6_judge 57 = .ok (.if_icmp .ge 7, 3) := dk_162 0 7 (dk_at dksX6_judge_2 11 rfl rfl)
theorem dX6_judge_60 : decode cX6_judge 60 = .ok (.iload_n 1, 1) := dk_27 (dk_at dksX6_judge_2 14 rfl rfl)
theorem dX6_judge_61 : decode cX6_judge 61 = .ok (.goto 5, 3) := dk_167 0 5 (dk_at dksX6_judge_2 15 rfl rfl)
theorem dX6_judge_64 : decode cX6_judge 64 = .ok (.bipush (-9), 2) := dk_16 247 (dk_at dksX6_judge_2 18 rfl rfl)
theorem dX6_judge_66 : decode cX6_judge 66 = .ok (.ireturn, 1) := dk_172 (dk_at dksX6_judge_2 20 rfl rfl)
abbrev cX6_clear : ByteArray := prog_25_method_108_code
def yX6_clear : MethodName := ⟨RX6, "clear", "()I"⟩
def dkwX6_clear_0 : List UInt8 := [42, 180, 1, 163, 60, 42, 3, 181, 1, 163, 27, 172]
abbrev dktX6_clear_0 : List UInt8 := dkwX6_clear_0 ++ []
theorem dksX6_clear_0 : cX6_clear.data.toList.drop 0 = dktX6_clear_0 := by decide +kernel
theorem dX6_clear_0 : decode cX6_clear 0 = .ok (.aload_n 0, 1) := dk_42 (dk_at dksX6_clear_0 0 rfl rfl)
theorem dX6_clear_1 : decode cX6_clear 1 = .ok (.getfield 419, 3) := dk_180 1 163 (dk_at dksX6_clear_0 1 rfl rfl)
theorem dX6_clear_4 : decode cX6_clear 4 = .ok (.istore_n 1, 1) := dk_60 (dk_at dksX6_clear_0 4 rfl rfl)
theorem dX6_clear_5 : decode cX6_clear 5 = .ok (.aload_n 0, 1) := dk_42 (dk_at dksX6_clear_0 5 rfl rfl)
theorem dX6_clear_6 : decode cX6_clear 6 = .ok (.iconst 0, 1) := dk_3 (dk_at dksX6_clear_0 6 rfl rfl)
theorem dX6_clear_7 : decode cX6_clear 7 = .ok (.putfield 419, 3) := dk_181 1 163 (dk_at dksX6_clear_0 7 rfl rfl)
theorem dX6_clear_10 : decode cX6_clear 10 = .ok (.iload_n 1, 1) := dk_27 (dk_at dksX6_clear_0 10 rfl rfl)
theorem dX6_clear_11 : decode cX6_clear 11 = .ok (.ireturn, 1) := dk_172 (dk_at dksX6_clear_0 11 rfl rfl)
abbrev cX6_lots : ByteArray := prog_25_method_111_code
def yX6_lots : MethodName := ⟨RX6, "lots", "(III)I"⟩
def dkwX6_lots_5 : List UInt8 := [167, 255, 190, 21, 5, 172]
abbrev dktX6_lots_5 : List UInt8 := dkwX6_lots_5 ++ []
def dkwX6_lots_4 : List UInt8 := [167, 0, 13, 21, 7, 154, 0, 7, 4, 167, 0, 4, 3, 96, 54, 5, 42, 182, 1, 139, 132, 6, 1]
abbrev dktX6_lots_4 : List UInt8 := dkwX6_lots_4 ++ dktX6_lots_5
def dkwX6_lots_3 : List UInt8 := [182, 1, 178, 132, 7, 1, 167, 255, 243, 42, 182, 1, 120, 54, 7, 21, 5, 29, 154, 0, 8, 21, 7]
abbrev dktX6_lots_3 : List UInt8 := dkwX6_lots_3 ++ dktX6_lots_4
def dkwX6_lots_2 : List UInt8 := [3, 54, 6, 21, 6, 27, 162, 0, 66, 42, 182, 1, 133, 3, 54, 7, 21, 7, 7, 162, 0, 13, 42]
abbrev dktX6_lots_2 : List UInt8 := dkwX6_lots_2 ++ dktX6_lots_3
def dkwX6_lots_1 : List UInt8 := [16, 254, 54, 4, 21, 4, 153, 0, 10, 42, 21, 4, 182, 0, 253, 172, 42, 28, 181, 1, 169, 3, 54, 5]
abbrev dktX6_lots_1 : List UInt8 := dkwX6_lots_1 ++ dktX6_lots_2
def dkwX6_lots_0 : List UInt8 := [27, 4, 16, 20, 184, 0, 246, 54, 4, 21, 4, 154, 0, 16, 29, 3, 4, 184, 0, 213, 154, 0, 7]
abbrev dktX6_lots_0 : List UInt8 := dkwX6_lots_0 ++ dktX6_lots_1
theorem dksX6_lots_0 : cX6_lots.data.toList.drop 0 = dktX6_lots_0 := by decide +kernel
theorem dksX6_lots_1 : cX6_lots.data.toList.drop 23 = dktX6_lots_1 := dk_seg dksX6_lots_0 23 rfl rfl
theorem dksX6_lots_2 : cX6_lots.data.toList.drop 47 = dktX6_lots_2 := dk_seg dksX6_lots_1 24 rfl rfl
theorem dksX6_lots_3 : cX6_lots.data.toList.drop 70 = dktX6_lots_3 := dk_seg dksX6_lots_2 23 rfl rfl
theorem dksX6_lots_4 : cX6_lots.data.toList.drop 93 = dktX6_lots_4 := dk_seg dksX6_lots_3 23 rfl rfl
theorem dksX6_lots_5 : cX6_lots.data.toList.drop 116 = dktX6_lots_5 := dk_seg dksX6_lots_4 23 rfl rfl
theorem dX6_lots_0 : decode cX6_lots 0 = .ok (.iload_n 1, 1) := dk_27 (dk_at dksX6_lots_0 0 rfl rfl)
theorem dX6_lots_1 : decode cX6_lots 1 = .ok (.iconst 1, 1) := dk_4 (dk_at dksX6_lots_0 1 rfl rfl)
theorem dX6_lots_2 : decode cX6_lots 2 = .ok (.bipush 20, 2) := dk_16 20 (dk_at dksX6_lots_0 2 rfl rfl)
theorem dX6_lots_4 : decode cX6_lots 4 = .ok (.invokestatic 246, 3) := dk_184 0 246 (dk_at dksX6_lots_0 4 rfl rfl)
theorem dX6_lots_7 : decode cX6_lots 7 = .ok (.istore 4, 2) := dk_54 4 (dk_at dksX6_lots_0 7 rfl rfl)
theorem dX6_lots_9 : decode cX6_lots 9 = .ok (.iload 4, 2) := dk_21 4 (dk_at dksX6_lots_0 9 rfl rfl)
theorem dX6_lots_11 : decode cX6_lots 11 = .ok (.ifCond .ne 16, 3) := dk_154 0 16 (dk_at dksX6_lots_0 11 rfl rfl)
theorem dX6_lots_14 : decode cX6_lots 14 = .ok (.iload_n 3, 1) := dk_29 (dk_at dksX6_lots_0 14 rfl rfl)
theorem dX6_lots_15 : decode cX6_lots 15 = .ok (.iconst 0, 1) := dk_3 (dk_at dksX6_lots_0 15 rfl rfl)
theorem dX6_lots_16 : decode cX6_lots 16 = .ok (.iconst 1, 1) := dk_4 (dk_at dksX6_lots_0 16 rfl rfl)
theorem dX6_lots_17 : decode cX6_lots 17 = .ok (.invokestatic 213, 3) := dk_184 0 213 (dk_at dksX6_lots_0 17 rfl rfl)
theorem dX6_lots_20 : decode cX6_lots 20 = .ok (.ifCond .ne 7, 3) := dk_154 0 7 (dk_at dksX6_lots_0 20 rfl rfl)
theorem dX6_lots_23 : decode cX6_lots 23 = .ok (.bipush (-2), 2) := dk_16 254 (dk_at dksX6_lots_1 0 rfl rfl)
theorem dX6_lots_25 : decode cX6_lots 25 = .ok (.istore 4, 2) := dk_54 4 (dk_at dksX6_lots_1 2 rfl rfl)
theorem dX6_lots_27 : decode cX6_lots 27 = .ok (.iload 4, 2) := dk_21 4 (dk_at dksX6_lots_1 4 rfl rfl)
theorem dX6_lots_29 : decode cX6_lots 29 = .ok (.ifCond .eq 10, 3) := dk_153 0 10 (dk_at dksX6_lots_1 6 rfl rfl)
theorem dX6_lots_32 : decode cX6_lots 32 = .ok (.aload_n 0, 1) := dk_42 (dk_at dksX6_lots_1 9 rfl rfl)
theorem dX6_lots_33 : decode cX6_lots 33 = .ok (.iload 4, 2) := dk_21 4 (dk_at dksX6_lots_1 10 rfl rfl)
theorem dX6_lots_35 : decode cX6_lots 35 = .ok (.invokevirtual 253, 3) := dk_182 0 253 (dk_at dksX6_lots_1 12 rfl rfl)
theorem dX6_lots_38 : decode cX6_lots 38 = .ok (.ireturn, 1) := dk_172 (dk_at dksX6_lots_1 15 rfl rfl)
theorem dX6_lots_39 : decode cX6_lots 39 = .ok (.aload_n 0, 1) := dk_42 (dk_at dksX6_lots_1 16 rfl rfl)
theorem dX6_lots_40 : decode cX6_lots 40 = .ok (.iload_n 2, 1) := dk_28 (dk_at dksX6_lots_1 17 rfl rfl)
theorem dX6_lots_41 : decode cX6_lots 41 = .ok (.putfield 425, 3) := dk_181 1 169 (dk_at dksX6_lots_1 18 rfl rfl)
theorem dX6_lots_44 : decode cX6_lots 44 = .ok (.iconst 0, 1) := dk_3 (dk_at dksX6_lots_1 21 rfl rfl)
theorem dX6_lots_45 : decode cX6_lots 45 = .ok (.istore 5, 2) := dk_54 5 (dk_at dksX6_lots_1 22 rfl rfl)
theorem dX6_lots_47 : decode cX6_lots 47 = .ok (.iconst 0, 1) := dk_3 (dk_at dksX6_lots_2 0 rfl rfl)
theorem dX6_lots_48 : decode cX6_lots 48 = .ok (.istore 6, 2) := dk_54 6 (dk_at dksX6_lots_2 1 rfl rfl)
theorem dX6_lots_50 : decode cX6_lots 50 = .ok (.iload 6, 2) := dk_21 6 (dk_at dksX6_lots_2 3 rfl rfl)
theorem dX6_lots_52 : decode cX6_lots 52 = .ok (.iload_n 1, 1) := dk_27 (dk_at dksX6_lots_2 5 rfl rfl)
theorem dX6_lots_53 : decode cX6_lots 53 = .ok (.if_icmp .ge 66, 3) := dk_162 0 66 (dk_at dksX6_lots_2 6 rfl rfl)
theorem dX6_lots_56 : decode cX6_lots 56 = .ok (.aload_n 0, 1) := dk_42 (dk_at dksX6_lots_2 9 rfl rfl)
theorem dX6_lots_57 : decode cX6_lots 57 = .ok (.invokevirtual 389, 3) := dk_182 1 133 (dk_at dksX6_lots_2 10 rfl rfl)
theorem dX6_lots_60 : decode cX6_lots 60 = .ok (.iconst 0, 1) := dk_3 (dk_at dksX6_lots_2 13 rfl rfl)
theorem dX6_lots_61 : decode cX6_lots 61 = .ok (.istore 7, 2) := dk_54 7 (dk_at dksX6_lots_2 14 rfl rfl)
theorem dX6_lots_63 : decode cX6_lots 63 = .ok (.iload 7, 2) := dk_21 7 (dk_at dksX6_lots_2 16 rfl rfl)
theorem dX6_lots_65 : decode cX6_lots 65 = .ok (.iconst 4, 1) := dk_7 (dk_at dksX6_lots_2 18 rfl rfl)
theorem dX6_lots_66 : decode cX6_lots 66 = .ok (.if_icmp .ge 13, 3) := dk_162 0 13 (dk_at dksX6_lots_2 19 rfl rfl)
theorem dX6_lots_69 : decode cX6_lots 69 = .ok (.aload_n 0, 1) := dk_42 (dk_at dksX6_lots_2 22 rfl rfl)
theorem dX6_lots_70 : decode cX6_lots 70 = .ok (.invokevirtual 434, 3) := dk_182 1 178 (dk_at dksX6_lots_3 0 rfl rfl)
theorem dX6_lots_73 : decode cX6_lots 73 = .ok (.iinc 7 1, 3) := dk_132 7 1 (dk_at dksX6_lots_3 3 rfl rfl)
theorem dX6_lots_76 : decode cX6_lots 76 = .ok (.goto (-13), 3) := dk_167 255 243 (dk_at dksX6_lots_3 6 rfl rfl)
theorem dX6_lots_79 : decode cX6_lots 79 = .ok (.aload_n 0, 1) := dk_42 (dk_at dksX6_lots_3 9 rfl rfl)
theorem dX6_lots_80 : decode cX6_lots 80 = .ok (.invokevirtual 376, 3) := dk_182 1 120 (dk_at dksX6_lots_3 10 rfl rfl)
theorem dX6_lots_83 : decode cX6_lots 83 = .ok (.istore 7, 2) := dk_54 7 (dk_at dksX6_lots_3 13 rfl rfl)
theorem dX6_lots_85 : decode cX6_lots 85 = .ok (.iload 5, 2) := dk_21 5 (dk_at dksX6_lots_3 15 rfl rfl)
theorem dX6_lots_87 : decode cX6_lots 87 = .ok (.iload_n 3, 1) := dk_29 (dk_at dksX6_lots_3 17 rfl rfl)
theorem dX6_lots_88 : decode cX6_lots 88 = .ok (.ifCond .ne 8, 3) := dk_154 0 8 (dk_at dksX6_lots_3 18 rfl rfl)
theorem dX6_lots_91 : decode cX6_lots 91 = .ok (.iload 7, 2) := dk_21 7 (dk_at dksX6_lots_3 21 rfl rfl)
theorem dX6_lots_93 : decode cX6_lots 93 = .ok (.goto 13, 3) := dk_167 0 13 (dk_at dksX6_lots_4 0 rfl rfl)
theorem dX6_lots_96 : decode cX6_lots 96 = .ok (.iload 7, 2) := dk_21 7 (dk_at dksX6_lots_4 3 rfl rfl)
theorem dX6_lots_98 : decode cX6_lots 98 = .ok (.ifCond .ne 7, 3) := dk_154 0 7 (dk_at dksX6_lots_4 5 rfl rfl)
theorem dX6_lots_101 : decode cX6_lots 101 = .ok (.iconst 1, 1) := dk_4 (dk_at dksX6_lots_4 8 rfl rfl)
theorem dX6_lots_102 : decode cX6_lots 102 = .ok (.goto 4, 3) := dk_167 0 4 (dk_at dksX6_lots_4 9 rfl rfl)
theorem dX6_lots_105 : decode cX6_lots 105 = .ok (.iconst 0, 1) := dk_3 (dk_at dksX6_lots_4 12 rfl rfl)
theorem dX6_lots_106 : decode cX6_lots 106 = .ok (.iadd, 1) := dk_96 (dk_at dksX6_lots_4 13 rfl rfl)
theorem dX6_lots_107 : decode cX6_lots 107 = .ok (.istore 5, 2) := dk_54 5 (dk_at dksX6_lots_4 14 rfl rfl)
theorem dX6_lots_109 : decode cX6_lots 109 = .ok (.aload_n 0, 1) := dk_42 (dk_at dksX6_lots_4 16 rfl rfl)
theorem dX6_lots_110 : decode cX6_lots 110 = .ok (.invokevirtual 395, 3) := dk_182 1 139 (dk_at dksX6_lots_4 17 rfl rfl)
theorem dX6_lots_113 : decode cX6_lots 113 = .ok (.iinc 6 1, 3) := dk_132 6 1 (dk_at dksX6_lots_4 20 rfl rfl)
theorem dX6_lots_116 : decode cX6_lots 116 = .ok (.goto (-66), 3) := dk_167 255 190 (dk_at dksX6_lots_5 0 rfl rfl)
theorem dX6_lots_119 : decode cX6_lots 119 = .ok (.iload 5, 2) := dk_21 5 (dk_at dksX6_lots_5 3 rfl rfl)
theorem dX6_lots_121 : decode cX6_lots 121 = .ok (.ireturn, 1) := dk_172 (dk_at dksX6_lots_5 5 rfl rfl)
abbrev cX6_changesByLot : ByteArray := prog_25_method_110_code
def yX6_changesByLot : MethodName := ⟨RX6, "changesByLot", "()V"⟩
def dkwX6_changesByLot_1 : List UInt8 := [167, 0, 15, 42, 27, 3, 42, 16, 100, 182, 1, 175, 182, 1, 114, 177]
abbrev dktX6_changesByLot_1 : List UInt8 := dkwX6_changesByLot_1 ++ []
def dkwX6_changesByLot_0 : List UInt8 := [42, 42, 180, 0, 118, 182, 1, 175, 60, 42, 7, 182, 1, 175, 154, 0, 13, 42, 27, 4, 3, 182, 1, 114]
abbrev dktX6_changesByLot_0 : List UInt8 := dkwX6_changesByLot_0 ++ dktX6_changesByLot_1
theorem dksX6_changesByLot_0 : cX6_changesByLot.data.toList.drop 0 = dktX6_changesByLot_0 := by decide +kernel
theorem dksX6_changesByLot_1 : cX6_changesByLot.data.toList.drop 24 = dktX6_changesByLot_1 := dk_seg dksX6_changesByLot_0 24 rfl rfl
theorem dX6_changesByLot_0 : decode cX6_changesByLot 0 = .ok (.aload_n 0, 1) := dk_42 (dk_at dksX6_changesByLot_0 0 rfl rfl)
theorem dX6_changesByLot_1 : decode cX6_changesByLot 1 = .ok (.aload_n 0, 1) := dk_42 (dk_at dksX6_changesByLot_0 1 rfl rfl)
theorem dX6_changesByLot_2 : decode cX6_changesByLot 2 = .ok (.getfield 118, 3) := dk_180 0 118 (dk_at dksX6_changesByLot_0 2 rfl rfl)
theorem dX6_changesByLot_5 : decode cX6_changesByLot 5 = .ok (.invokevirtual 431, 3) := dk_182 1 175 (dk_at dksX6_changesByLot_0 5 rfl rfl)
theorem dX6_changesByLot_8 : decode cX6_changesByLot 8 = .ok (.istore_n 1, 1) := dk_60 (dk_at dksX6_changesByLot_0 8 rfl rfl)
theorem dX6_changesByLot_9 : decode cX6_changesByLot 9 = .ok (.aload_n 0, 1) := dk_42 (dk_at dksX6_changesByLot_0 9 rfl rfl)
theorem dX6_changesByLot_10 : decode cX6_changesByLot 10 = .ok (.iconst 4, 1) := dk_7 (dk_at dksX6_changesByLot_0 10 rfl rfl)
theorem dX6_changesByLot_11 : decode cX6_changesByLot 11 = .ok (.invokevirtual 431, 3) := dk_182 1 175 (dk_at dksX6_changesByLot_0 11 rfl rfl)
theorem dX6_changesByLot_14 : decode cX6_changesByLot 14 = .ok (.ifCond .ne 13, 3) := dk_154 0 13 (dk_at dksX6_changesByLot_0 14 rfl rfl)
theorem dX6_changesByLot_17 : decode cX6_changesByLot 17 = .ok (.aload_n 0, 1) := dk_42 (dk_at dksX6_changesByLot_0 17 rfl rfl)
theorem dX6_changesByLot_18 : decode cX6_changesByLot 18 = .ok (.iload_n 1, 1) := dk_27 (dk_at dksX6_changesByLot_0 18 rfl rfl)
theorem dX6_changesByLot_19 : decode cX6_changesByLot 19 = .ok (.iconst 1, 1) := dk_4 (dk_at dksX6_changesByLot_0 19 rfl rfl)
theorem dX6_changesByLot_20 : decode cX6_changesByLot 20 = .ok (.iconst 0, 1) := dk_3 (dk_at dksX6_changesByLot_0 20 rfl rfl)
theorem dX6_changesByLot_21 : decode cX6_changesByLot 21 = .ok (.invokevirtual 370, 3) := dk_182 1 114 (dk_at dksX6_changesByLot_0 21 rfl rfl)
theorem dX6_changesByLot_24 : decode cX6_changesByLot 24 = .ok (.goto 15, 3) := dk_167 0 15 (dk_at dksX6_changesByLot_1 0 rfl rfl)
theorem dX6_changesByLot_27 : decode cX6_changesByLot 27 = .ok (.aload_n 0, 1) := dk_42 (dk_at dksX6_changesByLot_1 3 rfl rfl)
theorem dX6_changesByLot_28 : decode cX6_changesByLot 28 = .ok (.iload_n 1, 1) := dk_27 (dk_at dksX6_changesByLot_1 4 rfl rfl)
theorem dX6_changesByLot_29 : decode cX6_changesByLot 29 = .ok (.iconst 0, 1) := dk_3 (dk_at dksX6_changesByLot_1 5 rfl rfl)
theorem dX6_changesByLot_30 : decode cX6_changesByLot 30 = .ok (.aload_n 0, 1) := dk_42 (dk_at dksX6_changesByLot_1 6 rfl rfl)
theorem dX6_changesByLot_31 : decode cX6_changesByLot 31 = .ok (.bipush 100, 2) := dk_16 100 (dk_at dksX6_changesByLot_1 7 rfl rfl)
theorem dX6_changesByLot_33 : decode cX6_changesByLot 33 = .ok (.invokevirtual 431, 3) := dk_182 1 175 (dk_at dksX6_changesByLot_1 9 rfl rfl)
theorem dX6_changesByLot_36 : decode cX6_changesByLot 36 = .ok (.invokevirtual 370, 3) := dk_182 1 114 (dk_at dksX6_changesByLot_1 12 rfl rfl)
theorem dX6_changesByLot_39 : decode cX6_changesByLot 39 = .ok (.return_, 1) := dk_177 (dk_at dksX6_changesByLot_1 15 rfl rfl)
abbrev cX6_draw : ByteArray := prog_25_method_109_code
def yX6_draw : MethodName := ⟨RX6, "draw", "(I)I"⟩
def dkwX6_draw_1 : List UInt8 := [17, 1, 0, 108, 27, 112, 172]
abbrev dktX6_draw_1 : List UInt8 := dkwX6_draw_1 ++ []
def dkwX6_draw_0 : List UInt8 := [42, 42, 180, 1, 169, 19, 1, 172, 104, 19, 1, 173, 96, 181, 1, 169, 42, 180, 1, 169, 19, 1, 174, 126]
abbrev dktX6_draw_0 : List UInt8 := dkwX6_draw_0 ++ dktX6_draw_1
theorem dksX6_draw_0 : cX6_draw.data.toList.drop 0 = dktX6_draw_0 := by decide +kernel
theorem dksX6_draw_1 : cX6_draw.data.toList.drop 24 = dktX6_draw_1 := dk_seg dksX6_draw_0 24 rfl rfl
theorem dX6_draw_0 : decode cX6_draw 0 = .ok (.aload_n 0, 1) := dk_42 (dk_at dksX6_draw_0 0 rfl rfl)
theorem dX6_draw_1 : decode cX6_draw 1 = .ok (.aload_n 0, 1) := dk_42 (dk_at dksX6_draw_0 1 rfl rfl)
theorem dX6_draw_2 : decode cX6_draw 2 = .ok (.getfield 425, 3) := dk_180 1 169 (dk_at dksX6_draw_0 2 rfl rfl)
theorem dX6_draw_5 : decode cX6_draw 5 = .ok (.ldc_w 428, 3) := dk_19 1 172 (dk_at dksX6_draw_0 5 rfl rfl)
theorem dX6_draw_8 : decode cX6_draw 8 = .ok (.imul, 1) := dk_104 (dk_at dksX6_draw_0 8 rfl rfl)
theorem dX6_draw_9 : decode cX6_draw 9 = .ok (.ldc_w 429, 3) := dk_19 1 173 (dk_at dksX6_draw_0 9 rfl rfl)
theorem dX6_draw_12 : decode cX6_draw 12 = .ok (.iadd, 1) := dk_96 (dk_at dksX6_draw_0 12 rfl rfl)
theorem dX6_draw_13 : decode cX6_draw 13 = .ok (.putfield 425, 3) := dk_181 1 169 (dk_at dksX6_draw_0 13 rfl rfl)
theorem dX6_draw_16 : decode cX6_draw 16 = .ok (.aload_n 0, 1) := dk_42 (dk_at dksX6_draw_0 16 rfl rfl)
theorem dX6_draw_17 : decode cX6_draw 17 = .ok (.getfield 425, 3) := dk_180 1 169 (dk_at dksX6_draw_0 17 rfl rfl)
theorem dX6_draw_20 : decode cX6_draw 20 = .ok (.ldc_w 430, 3) := dk_19 1 174 (dk_at dksX6_draw_0 20 rfl rfl)
theorem dX6_draw_23 : decode cX6_draw 23 = .ok (.iand, 1) := dk_126 (dk_at dksX6_draw_0 23 rfl rfl)
theorem dX6_draw_24 : decode cX6_draw 24 = .ok (.sipush 256, 3) := dk_17 1 0 (dk_at dksX6_draw_1 0 rfl rfl)
theorem dX6_draw_27 : decode cX6_draw 27 = .ok (.idiv, 1) := dk_108 (dk_at dksX6_draw_1 3 rfl rfl)
theorem dX6_draw_28 : decode cX6_draw 28 = .ok (.iload_n 1, 1) := dk_27 (dk_at dksX6_draw_1 4 rfl rfl)
theorem dX6_draw_29 : decode cX6_draw 29 = .ok (.irem, 1) := dk_112 (dk_at dksX6_draw_1 5 rfl rfl)
theorem dX6_draw_30 : decode cX6_draw 30 = .ok (.ireturn, 1) := dk_172 (dk_at dksX6_draw_1 6 rfl rfl)
abbrev cX6_count : ByteArray := prog_25_method_113_code
def yX6_count : MethodName := ⟨RX6, "count", "(I)I"⟩
def dkwX6_count_3 : List UInt8 := [182, 1, 181, 172, 42, 182, 1, 184, 172, 42, 180, 1, 163, 172, 42, 180, 0, 250, 172, 16, 247, 172]
abbrev dktX6_count_3 : List UInt8 := dkwX6_count_3 ++ []
def dkwX6_count_2 : List UInt8 := [42, 180, 0, 118, 172, 42, 180, 0, 122, 172, 42, 182, 1, 120, 172, 42, 16, 20, 182, 1, 153, 172, 42]
abbrev dktX6_count_2 : List UInt8 := dkwX6_count_2 ++ dktX6_count_3
def dkwX6_count_1 : List UInt8 := [170, 0, 0, 0, 0, 88, 0, 0, 0, 0, 0, 0, 0, 7, 0, 0, 0, 46, 0, 0, 0, 51, 0, 0, 0, 56, 0, 0, 0, 61, 0, 0, 0, 68, 0, 0, 0, 73, 0, 0, 0, 78, 0, 0, 0, 83]
abbrev dktX6_count_1 : List UInt8 := dkwX6_count_1 ++ dktX6_count_2
def dkwX6_count_0 : List UInt8 := [27, 16, 11, 16, 16, 184, 0, 213, 153, 0, 13, 42, 180, 0, 7, 27, 16, 10, 100, 46, 172, 27]
abbrev dktX6_count_0 : List UInt8 := dkwX6_count_0 ++ dktX6_count_1
theorem dksX6_count_0 : cX6_count.data.toList.drop 0 = dktX6_count_0 := by decide +kernel
theorem dksX6_count_1 : cX6_count.data.toList.drop 22 = dktX6_count_1 := dk_seg dksX6_count_0 22 rfl rfl
theorem dksX6_count_2 : cX6_count.data.toList.drop 68 = dktX6_count_2 := dk_seg dksX6_count_1 46 rfl rfl
theorem dksX6_count_3 : cX6_count.data.toList.drop 91 = dktX6_count_3 := dk_seg dksX6_count_2 23 rfl rfl
theorem dX6_count_0 : decode cX6_count 0 = .ok (.iload_n 1, 1) := dk_27 (dk_at dksX6_count_0 0 rfl rfl)
theorem dX6_count_1 : decode cX6_count 1 = .ok (.bipush 11, 2) := dk_16 11 (dk_at dksX6_count_0 1 rfl rfl)
theorem dX6_count_3 : decode cX6_count 3 = .ok (.bipush 16, 2) := dk_16 16 (dk_at dksX6_count_0 3 rfl rfl)
theorem dX6_count_5 : decode cX6_count 5 = .ok (.invokestatic 213, 3) := dk_184 0 213 (dk_at dksX6_count_0 5 rfl rfl)
theorem dX6_count_8 : decode cX6_count 8 = .ok (.ifCond .eq 13, 3) := dk_153 0 13 (dk_at dksX6_count_0 8 rfl rfl)
theorem dX6_count_11 : decode cX6_count 11 = .ok (.aload_n 0, 1) := dk_42 (dk_at dksX6_count_0 11 rfl rfl)
theorem dX6_count_12 : decode cX6_count 12 = .ok (.getfield 7, 3) := dk_180 0 7 (dk_at dksX6_count_0 12 rfl rfl)
theorem dX6_count_15 : decode cX6_count 15 = .ok (.iload_n 1, 1) := dk_27 (dk_at dksX6_count_0 15 rfl rfl)
theorem dX6_count_16 : decode cX6_count 16 = .ok (.bipush 10, 2) := dk_16 10 (dk_at dksX6_count_0 16 rfl rfl)
theorem dX6_count_18 : decode cX6_count 18 = .ok (.isub, 1) := dk_100 (dk_at dksX6_count_0 18 rfl rfl)
theorem dX6_count_19 : decode cX6_count 19 = .ok (.iaload, 1) := dk_46 (dk_at dksX6_count_0 19 rfl rfl)
theorem dX6_count_20 : decode cX6_count 20 = .ok (.ireturn, 1) := dk_172 (dk_at dksX6_count_0 20 rfl rfl)
theorem dX6_count_21 : decode cX6_count 21 = .ok (.iload_n 1, 1) := dk_27 (dk_at dksX6_count_0 21 rfl rfl)
theorem dX6_count_22 : decode cX6_count 22 = .ok (.tableswitch 88 0 7 #[46, 51, 56, 61, 68, 73, 78, 83], 46) := by decide +kernel
theorem dX6_count_68 : decode cX6_count 68 = .ok (.aload_n 0, 1) := dk_42 (dk_at dksX6_count_2 0 rfl rfl)
theorem dX6_count_69 : decode cX6_count 69 = .ok (.getfield 118, 3) := dk_180 0 118 (dk_at dksX6_count_2 1 rfl rfl)
theorem dX6_count_72 : decode cX6_count 72 = .ok (.ireturn, 1) := dk_172 (dk_at dksX6_count_2 4 rfl rfl)
theorem dX6_count_73 : decode cX6_count 73 = .ok (.aload_n 0, 1) := dk_42 (dk_at dksX6_count_2 5 rfl rfl)
theorem dX6_count_74 : decode cX6_count 74 = .ok (.getfield 122, 3) := dk_180 0 122 (dk_at dksX6_count_2 6 rfl rfl)
theorem dX6_count_77 : decode cX6_count 77 = .ok (.ireturn, 1) := dk_172 (dk_at dksX6_count_2 9 rfl rfl)
theorem dX6_count_78 : decode cX6_count 78 = .ok (.aload_n 0, 1) := dk_42 (dk_at dksX6_count_2 10 rfl rfl)
theorem dX6_count_79 : decode cX6_count 79 = .ok (.invokevirtual 376, 3) := dk_182 1 120 (dk_at dksX6_count_2 11 rfl rfl)
theorem dX6_count_82 : decode cX6_count 82 = .ok (.ireturn, 1) := dk_172 (dk_at dksX6_count_2 14 rfl rfl)
theorem dX6_count_83 : decode cX6_count 83 = .ok (.aload_n 0, 1) := dk_42 (dk_at dksX6_count_2 15 rfl rfl)
theorem dX6_count_84 : decode cX6_count 84 = .ok (.bipush 20, 2) := dk_16 20 (dk_at dksX6_count_2 16 rfl rfl)
theorem dX6_count_86 : decode cX6_count 86 = .ok (.invokevirtual 409, 3) := dk_182 1 153 (dk_at dksX6_count_2 18 rfl rfl)
theorem dX6_count_89 : decode cX6_count 89 = .ok (.ireturn, 1) := dk_172 (dk_at dksX6_count_2 21 rfl rfl)
theorem dX6_count_90 : decode cX6_count 90 = .ok (.aload_n 0, 1) := dk_42 (dk_at dksX6_count_2 22 rfl rfl)
theorem dX6_count_91 : decode cX6_count 91 = .ok (.invokevirtual 437, 3) := dk_182 1 181 (dk_at dksX6_count_3 0 rfl rfl)
theorem dX6_count_94 : decode cX6_count 94 = .ok (.ireturn, 1) := dk_172 (dk_at dksX6_count_3 3 rfl rfl)
theorem dX6_count_95 : decode cX6_count 95 = .ok (.aload_n 0, 1) := dk_42 (dk_at dksX6_count_3 4 rfl rfl)
theorem dX6_count_96 : decode cX6_count 96 = .ok (.invokevirtual 440, 3) := dk_182 1 184 (dk_at dksX6_count_3 5 rfl rfl)
theorem dX6_count_99 : decode cX6_count 99 = .ok (.ireturn, 1) := dk_172 (dk_at dksX6_count_3 8 rfl rfl)
theorem dX6_count_100 : decode cX6_count 100 = .ok (.aload_n 0, 1) := dk_42 (dk_at dksX6_count_3 9 rfl rfl)
theorem dX6_count_101 : decode cX6_count 101 = .ok (.getfield 419, 3) := dk_180 1 163 (dk_at dksX6_count_3 10 rfl rfl)
theorem dX6_count_104 : decode cX6_count 104 = .ok (.ireturn, 1) := dk_172 (dk_at dksX6_count_3 13 rfl rfl)
theorem dX6_count_105 : decode cX6_count 105 = .ok (.aload_n 0, 1) := dk_42 (dk_at dksX6_count_3 14 rfl rfl)
theorem dX6_count_106 : decode cX6_count 106 = .ok (.getfield 250, 3) := dk_180 0 250 (dk_at dksX6_count_3 15 rfl rfl)
theorem dX6_count_109 : decode cX6_count 109 = .ok (.ireturn, 1) := dk_172 (dk_at dksX6_count_3 18 rfl rfl)
theorem dX6_count_110 : decode cX6_count 110 = .ok (.bipush (-9), 2) := dk_16 247 (dk_at dksX6_count_3 19 rfl rfl)
theorem dX6_count_112 : decode cX6_count 112 = .ok (.ireturn, 1) := dk_172 (dk_at dksX6_count_3 21 rfl rfl)
abbrev cX6_greatestPath : ByteArray := prog_25_method_112_code
def yX6_greatestPath : MethodName := ⟨RX6, "greatestPath", "()I"⟩
def dkwX6_greatestPath_1 : List UInt8 := [180, 0, 25, 28, 46, 167, 0, 4, 27, 60, 132, 2, 1, 167, 255, 224, 27, 172]
abbrev dktX6_greatestPath_1 : List UInt8 := dkwX6_greatestPath_1 ++ []
def dkwX6_greatestPath_0 : List UInt8 := [3, 60, 3, 61, 28, 42, 180, 0, 118, 162, 0, 30, 42, 180, 0, 25, 28, 46, 27, 164, 0, 12, 42]
abbrev dktX6_greatestPath_0 : List UInt8 := dkwX6_greatestPath_0 ++ dktX6_greatestPath_1
theorem dksX6_greatestPath_0 : cX6_greatestPath.data.toList.drop 0 = dktX6_greatestPath_0 := by decide +kernel
theorem dksX6_greatestPath_1 : cX6_greatestPath.data.toList.drop 23 = dktX6_greatestPath_1 := dk_seg dksX6_greatestPath_0 23 rfl rfl
theorem dX6_greatestPath_0 : decode cX6_greatestPath 0 = .ok (.iconst 0, 1) := dk_3 (dk_at dksX6_greatestPath_0 0 rfl rfl)
theorem dX6_greatestPath_1 : decode cX6_greatestPath 1 = .ok (.istore_n 1, 1) := dk_60 (dk_at dksX6_greatestPath_0 1 rfl rfl)
theorem dX6_greatestPath_2 : decode cX6_greatestPath 2 = .ok (.iconst 0, 1) := dk_3 (dk_at dksX6_greatestPath_0 2 rfl rfl)
theorem dX6_greatestPath_3 : decode cX6_greatestPath 3 = .ok (.istore_n 2, 1) := dk_61 (dk_at dksX6_greatestPath_0 3 rfl rfl)
theorem dX6_greatestPath_4 : decode cX6_greatestPath 4 = .ok (.iload_n 2, 1) := dk_28 (dk_at dksX6_greatestPath_0 4 rfl rfl)
theorem dX6_greatestPath_5 : decode cX6_greatestPath 5 = .ok (.aload_n 0, 1) := dk_42 (dk_at dksX6_greatestPath_0 5 rfl rfl)
theorem dX6_greatestPath_6 : decode cX6_greatestPath 6 = .ok (.getfield 118, 3) := dk_180 0 118 (dk_at dksX6_greatestPath_0 6 rfl rfl)
theorem dX6_greatestPath_9 : decode cX6_greatestPath 9 = .ok (.if_icmp .ge 30, 3) := dk_162 0 30 (dk_at dksX6_greatestPath_0 9 rfl rfl)
theorem dX6_greatestPath_12 : decode cX6_greatestPath 12 = .ok (.aload_n 0, 1) := dk_42 (dk_at dksX6_greatestPath_0 12 rfl rfl)
theorem dX6_greatestPath_13 : decode cX6_greatestPath 13 = .ok (.getfield 25, 3) := dk_180 0 25 (dk_at dksX6_greatestPath_0 13 rfl rfl)
theorem dX6_greatestPath_16 : decode cX6_greatestPath 16 = .ok (.iload_n 2, 1) := dk_28 (dk_at dksX6_greatestPath_0 16 rfl rfl)
theorem dX6_greatestPath_17 : decode cX6_greatestPath 17 = .ok (.iaload, 1) := dk_46 (dk_at dksX6_greatestPath_0 17 rfl rfl)
theorem dX6_greatestPath_18 : decode cX6_greatestPath 18 = .ok (.iload_n 1, 1) := dk_27 (dk_at dksX6_greatestPath_0 18 rfl rfl)
theorem dX6_greatestPath_19 : decode cX6_greatestPath 19 = .ok (.if_icmp .le 12, 3) := dk_164 0 12 (dk_at dksX6_greatestPath_0 19 rfl rfl)
theorem dX6_greatestPath_22 : decode cX6_greatestPath 22 = .ok (.aload_n 0, 1) := dk_42 (dk_at dksX6_greatestPath_0 22 rfl rfl)
theorem dX6_greatestPath_23 : decode cX6_greatestPath 23 = .ok (.getfield 25, 3) := dk_180 0 25 (dk_at dksX6_greatestPath_1 0 rfl rfl)
theorem dX6_greatestPath_26 : decode cX6_greatestPath 26 = .ok (.iload_n 2, 1) := dk_28 (dk_at dksX6_greatestPath_1 3 rfl rfl)
theorem dX6_greatestPath_27 : decode cX6_greatestPath 27 = .ok (.iaload, 1) := dk_46 (dk_at dksX6_greatestPath_1 4 rfl rfl)
theorem dX6_greatestPath_28 : decode cX6_greatestPath 28 = .ok (.goto 4, 3) := dk_167 0 4 (dk_at dksX6_greatestPath_1 5 rfl rfl)
theorem dX6_greatestPath_31 : decode cX6_greatestPath 31 = .ok (.iload_n 1, 1) := dk_27 (dk_at dksX6_greatestPath_1 8 rfl rfl)
theorem dX6_greatestPath_32 : decode cX6_greatestPath 32 = .ok (.istore_n 1, 1) := dk_60 (dk_at dksX6_greatestPath_1 9 rfl rfl)
theorem dX6_greatestPath_33 : decode cX6_greatestPath 33 = .ok (.iinc 2 1, 3) := dk_132 2 1 (dk_at dksX6_greatestPath_1 10 rfl rfl)
theorem dX6_greatestPath_36 : decode cX6_greatestPath 36 = .ok (.goto (-32), 3) := dk_167 255 224 (dk_at dksX6_greatestPath_1 13 rfl rfl)
theorem dX6_greatestPath_39 : decode cX6_greatestPath 39 = .ok (.iload_n 1, 1) := dk_27 (dk_at dksX6_greatestPath_1 16 rfl rfl)
theorem dX6_greatestPath_40 : decode cX6_greatestPath 40 = .ok (.ireturn, 1) := dk_172 (dk_at dksX6_greatestPath_1 17 rfl rfl)
theorem q144 : (Jvm.Cond.initialized "GathersAllFaultsModel") ∈ lw_all := lw_g (lw_at lw_m1 7 rfl) rfl
theorem q655 : (Jvm.Cond.selects "GathersAllFaultsModel" ({ cls := "java/lang/Object", name := "hashCode", desc := "()I" } : Jvm.MethodName) ({ cls := "java/lang/Object", name := "hashCode", desc := "()I" } : Jvm.MethodName)) ∈ lw_all := lw_g (lw_at lw_m3 38 rfl) rfl
theorem q720 : (Jvm.Cond.selects "GathersAllFaultsModel" ({ cls := "java/lang/Object", name := "equals", desc := "(Ljava/lang/Object;)Z" } : Jvm.MethodName) ({ cls := "java/lang/Object", name := "equals", desc := "(Ljava/lang/Object;)Z" } : Jvm.MethodName)) ∈ lw_all := lw_g (lw_at lw_m3 103 rfl) rfl
theorem q769 : (Jvm.Cond.selects "GathersAllFaultsModel" ({ cls := "java/lang/Object", name := "getClass", desc := "()Ljava/lang/Class;" } : Jvm.MethodName) ({ cls := "java/lang/Object", name := "getClass", desc := "()Ljava/lang/Class;" } : Jvm.MethodName)) ∈ lw_all := lw_g (lw_at lw_m3 152 rfl) rfl
theorem q2104 : (Jvm.Cond.instantiable "GathersAllFaultsModel" (54 : Nat)) ∈ lw_all := lw_g (lw_at lw_m9 47 rfl) rfl
theorem q2106 : (Jvm.Cond.instanceMethod ({ cls := "GathersAllFaultsModel", name := "<init>", desc := "()V" } : Jvm.MethodName)) ∈ lw_all := lw_g (lw_at lw_m9 49 rfl) rfl
theorem q2107 : (Jvm.Cond.code ({ cls := "GathersAllFaultsModel", name := "<init>", desc := "()V" } : Jvm.MethodName) prog_25_method_1_code (1 : Nat) (Option.none : Option Jvm.ClassFile.FieldType)) ∈ lw_all := lw_g (lw_at lw_m9 50 rfl) rfl
theorem q2108 : (Jvm.Cond.methodLink "GathersAllFaultsModel" (1 : Nat) ({ cls := "java/lang/Object", name := "<init>", desc := "()V" } : Jvm.MethodName)) ∈ lw_all := lw_g (lw_at lw_m9 51 rfl) rfl
theorem q2109 : (Jvm.Cond.methodLink "GathersAllFaultsModel" (125 : Nat) ({ cls := "GathersAllFaultsModel", name := "measures", desc := "()V" } : Jvm.MethodName)) ∈ lw_all := lw_g (lw_at lw_m9 52 rfl) rfl
theorem q2110 : (Jvm.Cond.privateMethod ({ cls := "GathersAllFaultsModel", name := "measures", desc := "()V" } : Jvm.MethodName)) ∈ lw_tbl := lw_at lw_m9 53 rfl
theorem q2111 : (Jvm.Cond.instanceMethod ({ cls := "GathersAllFaultsModel", name := "measures", desc := "()V" } : Jvm.MethodName)) ∈ lw_all := lw_g (lw_at lw_m9 54 rfl) rfl
theorem q2112 : (Jvm.Cond.code ({ cls := "GathersAllFaultsModel", name := "measures", desc := "()V" } : Jvm.MethodName) prog_25_method_9_code (4 : Nat) (Option.none : Option Jvm.ClassFile.FieldType)) ∈ lw_all := lw_g (lw_at lw_m9 55 rfl) rfl
theorem q2113 : (Jvm.Cond.methodLink "GathersAllFaultsModel" (134 : Nat) ({ cls := "GathersAllFaultsModel", name := "many", desc := "(I)I" } : Jvm.MethodName)) ∈ lw_all := lw_g (lw_at lw_m9 56 rfl) rfl
theorem q2114 : (Jvm.Cond.privateMethod ({ cls := "GathersAllFaultsModel", name := "many", desc := "(I)I" } : Jvm.MethodName)) ∈ lw_tbl := lw_at lw_m9 57 rfl
theorem q2115 : (Jvm.Cond.instanceMethod ({ cls := "GathersAllFaultsModel", name := "many", desc := "(I)I" } : Jvm.MethodName)) ∈ lw_all := lw_g (lw_at lw_m9 58 rfl) rfl
theorem q2116 : (Jvm.Cond.code ({ cls := "GathersAllFaultsModel", name := "many", desc := "(I)I" } : Jvm.MethodName) prog_25_method_8_code (2 : Nat) (Option.some Jvm.ClassFile.FieldType.int)) ∈ lw_all := lw_g (lw_at lw_m9 59 rfl) rfl
theorem q2117 : (Jvm.Cond.methodLink "GathersAllFaultsModel" (130 : Nat) ({ cls := "GathersAllFaultsModel", name := "isHolding", desc := "(I)Z" } : Jvm.MethodName)) ∈ lw_all := lw_g (lw_at lw_m9 60 rfl) rfl
theorem q2118 : (Jvm.Cond.privateMethod ({ cls := "GathersAllFaultsModel", name := "isHolding", desc := "(I)Z" } : Jvm.MethodName)) ∈ lw_tbl := lw_at lw_m9 61 rfl
theorem q2119 : (Jvm.Cond.instanceMethod ({ cls := "GathersAllFaultsModel", name := "isHolding", desc := "(I)Z" } : Jvm.MethodName)) ∈ lw_all := lw_g (lw_at lw_m9 62 rfl) rfl
theorem q2120 : (Jvm.Cond.code ({ cls := "GathersAllFaultsModel", name := "isHolding", desc := "(I)Z" } : Jvm.MethodName) prog_25_method_7_code (2 : Nat) (Option.some Jvm.ClassFile.FieldType.boolean)) ∈ lw_all := lw_g (lw_at lw_m9 63 rfl) rfl
theorem q2121 : (Jvm.Cond.fieldLink "GathersAllFaultsModel" (7 : Nat) "GathersAllFaultsModel" "refused" "[I") ∈ lw_all := lw_g (lw_at lw_m9 64 rfl) rfl
theorem q2122 : (Jvm.Cond.fieldLink "GathersAllFaultsModel" (13 : Nat) "GathersAllFaultsModel" "sort" "[I") ∈ lw_all := lw_g (lw_at lw_m9 65 rfl) rfl
theorem q2123 : (Jvm.Cond.fieldLink "GathersAllFaultsModel" (16 : Nat) "GathersAllFaultsModel" "number" "[I") ∈ lw_all := lw_g (lw_at lw_m9 66 rfl) rfl
theorem q2124 : (Jvm.Cond.fieldLink "GathersAllFaultsModel" (19 : Nat) "GathersAllFaultsModel" "name" "[I") ∈ lw_all := lw_g (lw_at lw_m9 67 rfl) rfl
theorem q2125 : (Jvm.Cond.fieldLink "GathersAllFaultsModel" (22 : Nat) "GathersAllFaultsModel" "size" "[I") ∈ lw_all := lw_g (lw_at lw_m9 68 rfl) rfl
theorem q2126 : (Jvm.Cond.fieldLink "GathersAllFaultsModel" (25 : Nat) "GathersAllFaultsModel" "path" "[I") ∈ lw_all := lw_g (lw_at lw_m9 69 rfl) rfl
theorem q2127 : (Jvm.Cond.fieldLink "GathersAllFaultsModel" (118 : Nat) "GathersAllFaultsModel" "parts" "I") ∈ lw_all := lw_g (lw_at lw_m9 70 rfl) rfl
theorem q2128 : (Jvm.Cond.fieldLink "GathersAllFaultsModel" (28 : Nat) "GathersAllFaultsModel" "kindOf" "[I") ∈ lw_all := lw_g (lw_at lw_m9 71 rfl) rfl
theorem q2129 : (Jvm.Cond.fieldLink "GathersAllFaultsModel" (31 : Nat) "GathersAllFaultsModel" "lowOf" "[I") ∈ lw_all := lw_g (lw_at lw_m9 72 rfl) rfl
theorem q2130 : (Jvm.Cond.fieldLink "GathersAllFaultsModel" (34 : Nat) "GathersAllFaultsModel" "highOf" "[I") ∈ lw_all := lw_g (lw_at lw_m9 73 rfl) rfl
theorem q2131 : (Jvm.Cond.fieldLink "GathersAllFaultsModel" (37 : Nat) "GathersAllFaultsModel" "firstOf" "[I") ∈ lw_all := lw_g (lw_at lw_m9 74 rfl) rfl
theorem q2132 : (Jvm.Cond.fieldLink "GathersAllFaultsModel" (40 : Nat) "GathersAllFaultsModel" "secondOf" "[I") ∈ lw_all := lw_g (lw_at lw_m9 75 rfl) rfl
theorem q2133 : (Jvm.Cond.fieldLink "GathersAllFaultsModel" (43 : Nat) "GathersAllFaultsModel" "fieldOwner" "[I") ∈ lw_all := lw_g (lw_at lw_m9 76 rfl) rfl
theorem q2134 : (Jvm.Cond.fieldLink "GathersAllFaultsModel" (46 : Nat) "GathersAllFaultsModel" "fieldName" "[I") ∈ lw_all := lw_g (lw_at lw_m9 77 rfl) rfl
theorem q2135 : (Jvm.Cond.fieldLink "GathersAllFaultsModel" (49 : Nat) "GathersAllFaultsModel" "fieldMay" "[I") ∈ lw_all := lw_g (lw_at lw_m9 78 rfl) rfl
theorem q2136 : (Jvm.Cond.fieldLink "GathersAllFaultsModel" (52 : Nat) "GathersAllFaultsModel" "fieldCheck" "[I") ∈ lw_all := lw_g (lw_at lw_m9 79 rfl) rfl
theorem q2137 : (Jvm.Cond.fieldLink "GathersAllFaultsModel" (55 : Nat) "GathersAllFaultsModel" "waiterOwner" "[I") ∈ lw_all := lw_g (lw_at lw_m9 80 rfl) rfl
theorem q2138 : (Jvm.Cond.fieldLink "GathersAllFaultsModel" (58 : Nat) "GathersAllFaultsModel" "waiterKind" "[I") ∈ lw_all := lw_g (lw_at lw_m9 81 rfl) rfl
theorem q2139 : (Jvm.Cond.fieldLink "GathersAllFaultsModel" (61 : Nat) "GathersAllFaultsModel" "waiterOne" "[I") ∈ lw_all := lw_g (lw_at lw_m9 82 rfl) rfl
theorem q2140 : (Jvm.Cond.fieldLink "GathersAllFaultsModel" (64 : Nat) "GathersAllFaultsModel" "waiterOther" "[I") ∈ lw_all := lw_g (lw_at lw_m9 83 rfl) rfl
theorem q2141 : (Jvm.Cond.fieldLink "GathersAllFaultsModel" (122 : Nat) "GathersAllFaultsModel" "checks" "I") ∈ lw_all := lw_g (lw_at lw_m9 84 rfl) rfl
theorem q2142 : (Jvm.Cond.fieldLink "GathersAllFaultsModel" (169 : Nat) "GathersAllFaultsModel" "fields" "I") ∈ lw_all := lw_g (lw_at lw_m9 85 rfl) rfl
theorem q2143 : (Jvm.Cond.fieldLink "GathersAllFaultsModel" (197 : Nat) "GathersAllFaultsModel" "waiters" "I") ∈ lw_all := lw_g (lw_at lw_m9 86 rfl) rfl
theorem q2144 : (Jvm.Cond.fieldLink "GathersAllFaultsModel" (320 : Nat) "GathersAllFaultsModel" "wholes" "I") ∈ lw_all := lw_g (lw_at lw_m9 87 rfl) rfl
theorem q2145 : (Jvm.Cond.fieldLink "GathersAllFaultsModel" (67 : Nat) "GathersAllFaultsModel" "faultPath" "[I") ∈ lw_all := lw_g (lw_at lw_m9 88 rfl) rfl
theorem q2146 : (Jvm.Cond.fieldLink "GathersAllFaultsModel" (70 : Nat) "GathersAllFaultsModel" "faultCode" "[I") ∈ lw_all := lw_g (lw_at lw_m9 89 rfl) rfl
theorem q2147 : (Jvm.Cond.fieldLink "GathersAllFaultsModel" (73 : Nat) "GathersAllFaultsModel" "lookCheck" "[I") ∈ lw_all := lw_g (lw_at lw_m9 90 rfl) rfl
theorem q2148 : (Jvm.Cond.fieldLink "GathersAllFaultsModel" (76 : Nat) "GathersAllFaultsModel" "lookPart" "[I") ∈ lw_all := lw_g (lw_at lw_m9 91 rfl) rfl
theorem q2149 : (Jvm.Cond.fieldLink "GathersAllFaultsModel" (79 : Nat) "GathersAllFaultsModel" "lookPhase" "[I") ∈ lw_all := lw_g (lw_at lw_m9 92 rfl) rfl
theorem q2150 : (Jvm.Cond.fieldLink "GathersAllFaultsModel" (82 : Nat) "GathersAllFaultsModel" "lookMark" "[I") ∈ lw_all := lw_g (lw_at lw_m9 93 rfl) rfl
theorem q2151 : (Jvm.Cond.fieldLink "GathersAllFaultsModel" (85 : Nat) "GathersAllFaultsModel" "lookWaits" "[I") ∈ lw_all := lw_g (lw_at lw_m9 94 rfl) rfl
theorem q2152 : (Jvm.Cond.fieldLink "GathersAllFaultsModel" (88 : Nat) "GathersAllFaultsModel" "lookEnd" "[I") ∈ lw_all := lw_g (lw_at lw_m9 95 rfl) rfl
theorem q2153 : (Jvm.Cond.fieldLink "GathersAllFaultsModel" (91 : Nat) "GathersAllFaultsModel" "lookEndWaits" "[I") ∈ lw_all := lw_g (lw_at lw_m9 96 rfl) rfl
theorem q2154 : (Jvm.Cond.fieldLink "GathersAllFaultsModel" (159 : Nat) "GathersAllFaultsModel" "found" "I") ∈ lw_all := lw_g (lw_at lw_m9 97 rfl) rfl
theorem q2155 : (Jvm.Cond.fieldLink "GathersAllFaultsModel" (185 : Nat) "GathersAllFaultsModel" "waiting" "I") ∈ lw_all := lw_g (lw_at lw_m9 98 rfl) rfl
theorem q2156 : (Jvm.Cond.fieldLink "GathersAllFaultsModel" (156 : Nat) "GathersAllFaultsModel" "deep" "I") ∈ lw_all := lw_g (lw_at lw_m9 99 rfl) rfl
theorem q2157 : (Jvm.Cond.fieldLink "GathersAllFaultsModel" (94 : Nat) "GathersAllFaultsModel" "tape" "[I") ∈ lw_all := lw_g (lw_at lw_m9 100 rfl) rfl
theorem q2158 : (Jvm.Cond.fieldLink "GathersAllFaultsModel" (97 : Nat) "GathersAllFaultsModel" "openAt" "[I") ∈ lw_all := lw_g (lw_at lw_m9 101 rfl) rfl
theorem q2159 : (Jvm.Cond.fieldLink "GathersAllFaultsModel" (100 : Nat) "GathersAllFaultsModel" "openSort" "[I") ∈ lw_all := lw_g (lw_at lw_m9 102 rfl) rfl
theorem q2160 : (Jvm.Cond.fieldLink "GathersAllFaultsModel" (103 : Nat) "GathersAllFaultsModel" "openNames" "[I") ∈ lw_all := lw_g (lw_at lw_m9 103 rfl) rfl
theorem q2161 : (Jvm.Cond.fieldLink "GathersAllFaultsModel" (106 : Nat) "GathersAllFaultsModel" "openMany" "[I") ∈ lw_all := lw_g (lw_at lw_m9 104 rfl) rfl
theorem q2162 : (Jvm.Cond.fieldLink "GathersAllFaultsModel" (109 : Nat) "GathersAllFaultsModel" "openInside" "[I") ∈ lw_all := lw_g (lw_at lw_m9 105 rfl) rfl
theorem q2163 : (Jvm.Cond.fieldLink "GathersAllFaultsModel" (250 : Nat) "GathersAllFaultsModel" "taped" "I") ∈ lw_all := lw_g (lw_at lw_m9 106 rfl) rfl
theorem q2164 : (Jvm.Cond.fieldLink "GathersAllFaultsModel" (256 : Nat) "GathersAllFaultsModel" "reading" "I") ∈ lw_all := lw_g (lw_at lw_m9 107 rfl) rfl
theorem q2165 : (Jvm.Cond.fieldLink "GathersAllFaultsModel" (263 : Nat) "GathersAllFaultsModel" "badAt" "I") ∈ lw_all := lw_g (lw_at lw_m9 108 rfl) rfl
theorem q2166 : (Jvm.Cond.fieldLink "GathersAllFaultsModel" (266 : Nat) "GathersAllFaultsModel" "open" "I") ∈ lw_all := lw_g (lw_at lw_m9 109 rfl) rfl
theorem q2167 : (Jvm.Cond.fieldLink "GathersAllFaultsModel" (272 : Nat) "GathersAllFaultsModel" "nameTold" "I") ∈ lw_all := lw_g (lw_at lw_m9 110 rfl) rfl
theorem q2168 : (Jvm.Cond.fieldLink "GathersAllFaultsModel" (112 : Nat) "GathersAllFaultsModel" "kept" "[I") ∈ lw_all := lw_g (lw_at lw_m9 111 rfl) rfl
theorem q2169 : (Jvm.Cond.fieldLink "GathersAllFaultsModel" (367 : Nat) "GathersAllFaultsModel" "hasImage" "Z") ∈ lw_all := lw_g (lw_at lw_m9 112 rfl) rfl
theorem q2170 : (Jvm.Cond.fieldLink "GathersAllFaultsModel" (353 : Nat) "GathersAllFaultsModel" "isKeeping" "Z") ∈ lw_all := lw_g (lw_at lw_m9 113 rfl) rfl
theorem q2171 : (Jvm.Cond.fieldLink "GathersAllFaultsModel" (357 : Nat) "GathersAllFaultsModel" "cursor" "I") ∈ lw_all := lw_g (lw_at lw_m9 114 rfl) rfl
theorem q2172 : (Jvm.Cond.fieldLink "GathersAllFaultsModel" (115 : Nat) "GathersAllFaultsModel" "row" "[I") ∈ lw_all := lw_g (lw_at lw_m9 115 rfl) rfl
theorem q2173 : (Jvm.Cond.fieldLink "GathersAllFaultsModel" (419 : Nat) "GathersAllFaultsModel" "rowMany" "I") ∈ lw_all := lw_g (lw_at lw_m9 116 rfl) rfl
theorem q2174 : (Jvm.Cond.fieldLink "GathersAllFaultsModel" (425 : Nat) "GathersAllFaultsModel" "lots" "I") ∈ lw_all := lw_g (lw_at lw_m9 117 rfl) rfl
theorem q2175 : (Jvm.Cond.laysFinal "GathersAllFaultsModel" "GathersAllFaultsModel" "refused" "[I") ∈ lw_all := lw_g (lw_at lw_m9 118 rfl) rfl
theorem q2176 : (Jvm.Cond.soleField "GathersAllFaultsModel" "refused") ∈ lw_all := lw_g (lw_at lw_m9 119 rfl) rfl
theorem q2177 : (Jvm.Cond.laysFinal "GathersAllFaultsModel" "GathersAllFaultsModel" "sort" "[I") ∈ lw_all := lw_g (lw_at lw_m9 120 rfl) rfl
theorem q2178 : (Jvm.Cond.soleField "GathersAllFaultsModel" "sort") ∈ lw_all := lw_g (lw_at lw_m9 121 rfl) rfl
theorem q2179 : (Jvm.Cond.laysFinal "GathersAllFaultsModel" "GathersAllFaultsModel" "number" "[I") ∈ lw_all := lw_g (lw_at lw_m9 122 rfl) rfl
theorem q2180 : (Jvm.Cond.soleField "GathersAllFaultsModel" "number") ∈ lw_all := lw_g (lw_at lw_m9 123 rfl) rfl
theorem q2181 : (Jvm.Cond.laysFinal "GathersAllFaultsModel" "GathersAllFaultsModel" "name" "[I") ∈ lw_all := lw_g (lw_at lw_m9 124 rfl) rfl
theorem q2182 : (Jvm.Cond.soleField "GathersAllFaultsModel" "name") ∈ lw_all := lw_g (lw_at lw_m9 125 rfl) rfl
theorem q2183 : (Jvm.Cond.laysFinal "GathersAllFaultsModel" "GathersAllFaultsModel" "size" "[I") ∈ lw_all := lw_g (lw_at lw_m9 126 rfl) rfl
theorem q2184 : (Jvm.Cond.soleField "GathersAllFaultsModel" "size") ∈ lw_all := lw_g (lw_at lw_m9 127 rfl) rfl
theorem q2185 : (Jvm.Cond.laysFinal "GathersAllFaultsModel" "GathersAllFaultsModel" "path" "[I") ∈ lw_all := lw_g (lw_at lw_m9 128 rfl) rfl
theorem q2186 : (Jvm.Cond.soleField "GathersAllFaultsModel" "path") ∈ lw_all := lw_g (lw_at lw_m9 129 rfl) rfl
theorem q2187 : (Jvm.Cond.lays "GathersAllFaultsModel" "GathersAllFaultsModel" "parts" "I") ∈ lw_all := lw_g (lw_at lw_m9 130 rfl) rfl
theorem q2188 : (Jvm.Cond.soleField "GathersAllFaultsModel" "parts") ∈ lw_all := lw_g (lw_at lw_m9 131 rfl) rfl
theorem q2189 : (Jvm.Cond.laysFinal "GathersAllFaultsModel" "GathersAllFaultsModel" "kindOf" "[I") ∈ lw_all := lw_g (lw_at lw_m9 132 rfl) rfl
theorem q2190 : (Jvm.Cond.soleField "GathersAllFaultsModel" "kindOf") ∈ lw_all := lw_g (lw_at lw_m9 133 rfl) rfl
theorem q2191 : (Jvm.Cond.laysFinal "GathersAllFaultsModel" "GathersAllFaultsModel" "lowOf" "[I") ∈ lw_all := lw_g (lw_at lw_m9 134 rfl) rfl
theorem q2192 : (Jvm.Cond.soleField "GathersAllFaultsModel" "lowOf") ∈ lw_all := lw_g (lw_at lw_m9 135 rfl) rfl
theorem q2193 : (Jvm.Cond.laysFinal "GathersAllFaultsModel" "GathersAllFaultsModel" "highOf" "[I") ∈ lw_all := lw_g (lw_at lw_m9 136 rfl) rfl
theorem q2194 : (Jvm.Cond.soleField "GathersAllFaultsModel" "highOf") ∈ lw_all := lw_g (lw_at lw_m9 137 rfl) rfl
theorem q2195 : (Jvm.Cond.laysFinal "GathersAllFaultsModel" "GathersAllFaultsModel" "firstOf" "[I") ∈ lw_all := lw_g (lw_at lw_m9 138 rfl) rfl
theorem q2196 : (Jvm.Cond.soleField "GathersAllFaultsModel" "firstOf") ∈ lw_all := lw_g (lw_at lw_m9 139 rfl) rfl
theorem q2197 : (Jvm.Cond.laysFinal "GathersAllFaultsModel" "GathersAllFaultsModel" "secondOf" "[I") ∈ lw_all := lw_g (lw_at lw_m9 140 rfl) rfl
theorem q2198 : (Jvm.Cond.soleField "GathersAllFaultsModel" "secondOf") ∈ lw_all := lw_g (lw_at lw_m9 141 rfl) rfl
theorem q2199 : (Jvm.Cond.laysFinal "GathersAllFaultsModel" "GathersAllFaultsModel" "fieldOwner" "[I") ∈ lw_all := lw_g (lw_at lw_m9 142 rfl) rfl
theorem q2200 : (Jvm.Cond.soleField "GathersAllFaultsModel" "fieldOwner") ∈ lw_all := lw_g (lw_at lw_m9 143 rfl) rfl
theorem q2201 : (Jvm.Cond.laysFinal "GathersAllFaultsModel" "GathersAllFaultsModel" "fieldName" "[I") ∈ lw_all := lw_g (lw_at lw_m9 144 rfl) rfl
theorem q2202 : (Jvm.Cond.soleField "GathersAllFaultsModel" "fieldName") ∈ lw_all := lw_g (lw_at lw_m9 145 rfl) rfl
theorem q2203 : (Jvm.Cond.laysFinal "GathersAllFaultsModel" "GathersAllFaultsModel" "fieldMay" "[I") ∈ lw_all := lw_g (lw_at lw_m9 146 rfl) rfl
theorem q2204 : (Jvm.Cond.soleField "GathersAllFaultsModel" "fieldMay") ∈ lw_all := lw_g (lw_at lw_m9 147 rfl) rfl
theorem q2205 : (Jvm.Cond.laysFinal "GathersAllFaultsModel" "GathersAllFaultsModel" "fieldCheck" "[I") ∈ lw_all := lw_g (lw_at lw_m9 148 rfl) rfl
theorem q2206 : (Jvm.Cond.soleField "GathersAllFaultsModel" "fieldCheck") ∈ lw_all := lw_g (lw_at lw_m9 149 rfl) rfl
theorem q2207 : (Jvm.Cond.laysFinal "GathersAllFaultsModel" "GathersAllFaultsModel" "waiterOwner" "[I") ∈ lw_all := lw_g (lw_at lw_m9 150 rfl) rfl
theorem q2208 : (Jvm.Cond.soleField "GathersAllFaultsModel" "waiterOwner") ∈ lw_all := lw_g (lw_at lw_m9 151 rfl) rfl
theorem q2209 : (Jvm.Cond.laysFinal "GathersAllFaultsModel" "GathersAllFaultsModel" "waiterKind" "[I") ∈ lw_all := lw_g (lw_at lw_m9 152 rfl) rfl
theorem q2210 : (Jvm.Cond.soleField "GathersAllFaultsModel" "waiterKind") ∈ lw_all := lw_g (lw_at lw_m9 153 rfl) rfl
theorem q2211 : (Jvm.Cond.laysFinal "GathersAllFaultsModel" "GathersAllFaultsModel" "waiterOne" "[I") ∈ lw_all := lw_g (lw_at lw_m9 154 rfl) rfl
theorem q2212 : (Jvm.Cond.soleField "GathersAllFaultsModel" "waiterOne") ∈ lw_all := lw_g (lw_at lw_m9 155 rfl) rfl
theorem q2213 : (Jvm.Cond.laysFinal "GathersAllFaultsModel" "GathersAllFaultsModel" "waiterOther" "[I") ∈ lw_all := lw_g (lw_at lw_m9 156 rfl) rfl
theorem q2214 : (Jvm.Cond.soleField "GathersAllFaultsModel" "waiterOther") ∈ lw_all := lw_g (lw_at lw_m9 157 rfl) rfl
theorem q2215 : (Jvm.Cond.lays "GathersAllFaultsModel" "GathersAllFaultsModel" "checks" "I") ∈ lw_all := lw_g (lw_at lw_m9 158 rfl) rfl
theorem q2216 : (Jvm.Cond.soleField "GathersAllFaultsModel" "checks") ∈ lw_all := lw_g (lw_at lw_m9 159 rfl) rfl
theorem q2217 : (Jvm.Cond.lays "GathersAllFaultsModel" "GathersAllFaultsModel" "fields" "I") ∈ lw_all := lw_g (lw_at lw_m9 160 rfl) rfl
theorem q2218 : (Jvm.Cond.soleField "GathersAllFaultsModel" "fields") ∈ lw_all := lw_g (lw_at lw_m9 161 rfl) rfl
theorem q2219 : (Jvm.Cond.lays "GathersAllFaultsModel" "GathersAllFaultsModel" "waiters" "I") ∈ lw_all := lw_g (lw_at lw_m9 162 rfl) rfl
theorem q2220 : (Jvm.Cond.soleField "GathersAllFaultsModel" "waiters") ∈ lw_all := lw_g (lw_at lw_m9 163 rfl) rfl
theorem q2221 : (Jvm.Cond.lays "GathersAllFaultsModel" "GathersAllFaultsModel" "wholes" "I") ∈ lw_all := lw_g (lw_at lw_m9 164 rfl) rfl
theorem q2222 : (Jvm.Cond.soleField "GathersAllFaultsModel" "wholes") ∈ lw_all := lw_g (lw_at lw_m9 165 rfl) rfl
theorem q2223 : (Jvm.Cond.laysFinal "GathersAllFaultsModel" "GathersAllFaultsModel" "faultPath" "[I") ∈ lw_all := lw_g (lw_at lw_m9 166 rfl) rfl
theorem q2224 : (Jvm.Cond.soleField "GathersAllFaultsModel" "faultPath") ∈ lw_all := lw_g (lw_at lw_m9 167 rfl) rfl
theorem q2225 : (Jvm.Cond.laysFinal "GathersAllFaultsModel" "GathersAllFaultsModel" "faultCode" "[I") ∈ lw_all := lw_g (lw_at lw_m9 168 rfl) rfl
theorem q2226 : (Jvm.Cond.soleField "GathersAllFaultsModel" "faultCode") ∈ lw_all := lw_g (lw_at lw_m9 169 rfl) rfl
theorem q2227 : (Jvm.Cond.laysFinal "GathersAllFaultsModel" "GathersAllFaultsModel" "lookCheck" "[I") ∈ lw_all := lw_g (lw_at lw_m9 170 rfl) rfl
theorem q2228 : (Jvm.Cond.soleField "GathersAllFaultsModel" "lookCheck") ∈ lw_all := lw_g (lw_at lw_m9 171 rfl) rfl
theorem q2229 : (Jvm.Cond.laysFinal "GathersAllFaultsModel" "GathersAllFaultsModel" "lookPart" "[I") ∈ lw_all := lw_g (lw_at lw_m9 172 rfl) rfl
theorem q2230 : (Jvm.Cond.soleField "GathersAllFaultsModel" "lookPart") ∈ lw_all := lw_g (lw_at lw_m9 173 rfl) rfl
theorem q2231 : (Jvm.Cond.laysFinal "GathersAllFaultsModel" "GathersAllFaultsModel" "lookPhase" "[I") ∈ lw_all := lw_g (lw_at lw_m9 174 rfl) rfl
theorem q2232 : (Jvm.Cond.soleField "GathersAllFaultsModel" "lookPhase") ∈ lw_all := lw_g (lw_at lw_m9 175 rfl) rfl
theorem q2233 : (Jvm.Cond.laysFinal "GathersAllFaultsModel" "GathersAllFaultsModel" "lookMark" "[I") ∈ lw_all := lw_g (lw_at lw_m9 176 rfl) rfl
theorem q2234 : (Jvm.Cond.soleField "GathersAllFaultsModel" "lookMark") ∈ lw_all := lw_g (lw_at lw_m9 177 rfl) rfl
theorem q2235 : (Jvm.Cond.laysFinal "GathersAllFaultsModel" "GathersAllFaultsModel" "lookWaits" "[I") ∈ lw_all := lw_g (lw_at lw_m9 178 rfl) rfl
theorem q2236 : (Jvm.Cond.soleField "GathersAllFaultsModel" "lookWaits") ∈ lw_all := lw_g (lw_at lw_m9 179 rfl) rfl
theorem q2237 : (Jvm.Cond.laysFinal "GathersAllFaultsModel" "GathersAllFaultsModel" "lookEnd" "[I") ∈ lw_all := lw_g (lw_at lw_m9 180 rfl) rfl
theorem q2238 : (Jvm.Cond.soleField "GathersAllFaultsModel" "lookEnd") ∈ lw_all := lw_g (lw_at lw_m9 181 rfl) rfl
theorem q2239 : (Jvm.Cond.laysFinal "GathersAllFaultsModel" "GathersAllFaultsModel" "lookEndWaits" "[I") ∈ lw_all := lw_g (lw_at lw_m9 182 rfl) rfl
theorem q2240 : (Jvm.Cond.soleField "GathersAllFaultsModel" "lookEndWaits") ∈ lw_all := lw_g (lw_at lw_m9 183 rfl) rfl
theorem q2241 : (Jvm.Cond.lays "GathersAllFaultsModel" "GathersAllFaultsModel" "found" "I") ∈ lw_all := lw_g (lw_at lw_m9 184 rfl) rfl
theorem q2242 : (Jvm.Cond.soleField "GathersAllFaultsModel" "found") ∈ lw_all := lw_g (lw_at lw_m9 185 rfl) rfl
theorem q2243 : (Jvm.Cond.lays "GathersAllFaultsModel" "GathersAllFaultsModel" "waiting" "I") ∈ lw_all := lw_g (lw_at lw_m9 186 rfl) rfl
theorem q2244 : (Jvm.Cond.soleField "GathersAllFaultsModel" "waiting") ∈ lw_all := lw_g (lw_at lw_m9 187 rfl) rfl
theorem q2245 : (Jvm.Cond.lays "GathersAllFaultsModel" "GathersAllFaultsModel" "deep" "I") ∈ lw_all := lw_g (lw_at lw_m9 188 rfl) rfl
theorem q2246 : (Jvm.Cond.soleField "GathersAllFaultsModel" "deep") ∈ lw_all := lw_g (lw_at lw_m9 189 rfl) rfl
theorem q2247 : (Jvm.Cond.laysFinal "GathersAllFaultsModel" "GathersAllFaultsModel" "tape" "[I") ∈ lw_all := lw_g (lw_at lw_m9 190 rfl) rfl
theorem q2248 : (Jvm.Cond.soleField "GathersAllFaultsModel" "tape") ∈ lw_all := lw_g (lw_at lw_m9 191 rfl) rfl
theorem q2249 : (Jvm.Cond.laysFinal "GathersAllFaultsModel" "GathersAllFaultsModel" "openAt" "[I") ∈ lw_all := lw_g (lw_at lw_m9 192 rfl) rfl
theorem q2250 : (Jvm.Cond.soleField "GathersAllFaultsModel" "openAt") ∈ lw_all := lw_g (lw_at lw_m9 193 rfl) rfl
theorem q2251 : (Jvm.Cond.laysFinal "GathersAllFaultsModel" "GathersAllFaultsModel" "openSort" "[I") ∈ lw_all := lw_g (lw_at lw_m9 194 rfl) rfl
theorem q2252 : (Jvm.Cond.soleField "GathersAllFaultsModel" "openSort") ∈ lw_all := lw_g (lw_at lw_m9 195 rfl) rfl
theorem q2253 : (Jvm.Cond.laysFinal "GathersAllFaultsModel" "GathersAllFaultsModel" "openNames" "[I") ∈ lw_all := lw_g (lw_at lw_m9 196 rfl) rfl
theorem q2254 : (Jvm.Cond.soleField "GathersAllFaultsModel" "openNames") ∈ lw_all := lw_g (lw_at lw_m9 197 rfl) rfl
theorem q2255 : (Jvm.Cond.laysFinal "GathersAllFaultsModel" "GathersAllFaultsModel" "openMany" "[I") ∈ lw_all := lw_g (lw_at lw_m9 198 rfl) rfl
theorem q2256 : (Jvm.Cond.soleField "GathersAllFaultsModel" "openMany") ∈ lw_all := lw_g (lw_at lw_m9 199 rfl) rfl
theorem q2257 : (Jvm.Cond.laysFinal "GathersAllFaultsModel" "GathersAllFaultsModel" "openInside" "[I") ∈ lw_all := lw_g (lw_at lw_m9 200 rfl) rfl
theorem q2258 : (Jvm.Cond.soleField "GathersAllFaultsModel" "openInside") ∈ lw_all := lw_g (lw_at lw_m9 201 rfl) rfl
theorem q2259 : (Jvm.Cond.lays "GathersAllFaultsModel" "GathersAllFaultsModel" "taped" "I") ∈ lw_all := lw_g (lw_at lw_m9 202 rfl) rfl
theorem q2260 : (Jvm.Cond.soleField "GathersAllFaultsModel" "taped") ∈ lw_all := lw_g (lw_at lw_m9 203 rfl) rfl
theorem q2261 : (Jvm.Cond.lays "GathersAllFaultsModel" "GathersAllFaultsModel" "reading" "I") ∈ lw_all := lw_g (lw_at lw_m9 204 rfl) rfl
theorem q2262 : (Jvm.Cond.soleField "GathersAllFaultsModel" "reading") ∈ lw_all := lw_g (lw_at lw_m9 205 rfl) rfl
theorem q2263 : (Jvm.Cond.lays "GathersAllFaultsModel" "GathersAllFaultsModel" "badAt" "I") ∈ lw_all := lw_g (lw_at lw_m9 206 rfl) rfl
theorem q2264 : (Jvm.Cond.soleField "GathersAllFaultsModel" "badAt") ∈ lw_all := lw_g (lw_at lw_m9 207 rfl) rfl
theorem q2265 : (Jvm.Cond.lays "GathersAllFaultsModel" "GathersAllFaultsModel" "open" "I") ∈ lw_all := lw_g (lw_at lw_m9 208 rfl) rfl
theorem q2266 : (Jvm.Cond.soleField "GathersAllFaultsModel" "open") ∈ lw_all := lw_g (lw_at lw_m9 209 rfl) rfl
theorem q2267 : (Jvm.Cond.lays "GathersAllFaultsModel" "GathersAllFaultsModel" "nameTold" "I") ∈ lw_all := lw_g (lw_at lw_m9 210 rfl) rfl
theorem q2268 : (Jvm.Cond.soleField "GathersAllFaultsModel" "nameTold") ∈ lw_all := lw_g (lw_at lw_m9 211 rfl) rfl
theorem q2269 : (Jvm.Cond.laysFinal "GathersAllFaultsModel" "GathersAllFaultsModel" "kept" "[I") ∈ lw_all := lw_g (lw_at lw_m9 212 rfl) rfl
theorem q2270 : (Jvm.Cond.soleField "GathersAllFaultsModel" "kept") ∈ lw_all := lw_g (lw_at lw_m9 213 rfl) rfl
theorem q2271 : (Jvm.Cond.lays "GathersAllFaultsModel" "GathersAllFaultsModel" "hasImage" "Z") ∈ lw_all := lw_g (lw_at lw_m9 214 rfl) rfl
theorem q2272 : (Jvm.Cond.soleField "GathersAllFaultsModel" "hasImage") ∈ lw_all := lw_g (lw_at lw_m9 215 rfl) rfl
theorem q2273 : (Jvm.Cond.lays "GathersAllFaultsModel" "GathersAllFaultsModel" "isKeeping" "Z") ∈ lw_all := lw_g (lw_at lw_m9 216 rfl) rfl
theorem q2274 : (Jvm.Cond.soleField "GathersAllFaultsModel" "isKeeping") ∈ lw_all := lw_g (lw_at lw_m9 217 rfl) rfl
theorem q2275 : (Jvm.Cond.lays "GathersAllFaultsModel" "GathersAllFaultsModel" "cursor" "I") ∈ lw_all := lw_g (lw_at lw_m9 218 rfl) rfl
theorem q2276 : (Jvm.Cond.soleField "GathersAllFaultsModel" "cursor") ∈ lw_all := lw_g (lw_at lw_m9 219 rfl) rfl
theorem q2277 : (Jvm.Cond.laysFinal "GathersAllFaultsModel" "GathersAllFaultsModel" "row" "[I") ∈ lw_all := lw_g (lw_at lw_m9 220 rfl) rfl
theorem q2278 : (Jvm.Cond.soleField "GathersAllFaultsModel" "row") ∈ lw_all := lw_g (lw_at lw_m9 221 rfl) rfl
theorem q2279 : (Jvm.Cond.lays "GathersAllFaultsModel" "GathersAllFaultsModel" "rowMany" "I") ∈ lw_all := lw_g (lw_at lw_m9 222 rfl) rfl
theorem q2280 : (Jvm.Cond.soleField "GathersAllFaultsModel" "rowMany") ∈ lw_all := lw_g (lw_at lw_m9 223 rfl) rfl
theorem q2281 : (Jvm.Cond.lays "GathersAllFaultsModel" "GathersAllFaultsModel" "lots" "I") ∈ lw_all := lw_g (lw_at lw_m9 224 rfl) rfl
theorem q2282 : (Jvm.Cond.soleField "GathersAllFaultsModel" "lots") ∈ lw_all := lw_g (lw_at lw_m9 225 rfl) rfl
theorem q2283 : (Jvm.Cond.superclass "GathersAllFaultsModel" "java/lang/Object") ∈ lw_all := lw_g (lw_at lw_m9 226 rfl) rfl
theorem q2285 : (Jvm.Cond.instanceMethod ({ cls := "GathersAllFaultsModel", name := "letter", desc := "(I)I" } : Jvm.MethodName)) ∈ lw_all := lw_g (lw_at lw_m9 228 rfl) rfl
theorem q2286 : (Jvm.Cond.selects "GathersAllFaultsModel" ({ cls := "GathersAllFaultsModel", name := "letter", desc := "(I)I" } : Jvm.MethodName) ({ cls := "GathersAllFaultsModel", name := "letter", desc := "(I)I" } : Jvm.MethodName)) ∈ lw_all := lw_g (lw_at lw_m9 229 rfl) rfl
theorem q2287 : (Jvm.Cond.code ({ cls := "GathersAllFaultsModel", name := "letter", desc := "(I)I" } : Jvm.MethodName) prog_25_method_41_code (3 : Nat) (Option.some Jvm.ClassFile.FieldType.int)) ∈ lw_all := lw_g (lw_at lw_m9 230 rfl) rfl
theorem q2288 : (Jvm.Cond.methodLink "GathersAllFaultsModel" (246 : Nat) ({ cls := "GathersAllFaultsModel", name := "bound", desc := "(III)I" } : Jvm.MethodName)) ∈ lw_all := lw_g (lw_at lw_m9 231 rfl) rfl
theorem q2289 : (Jvm.Cond.static ({ cls := "GathersAllFaultsModel", name := "bound", desc := "(III)I" } : Jvm.MethodName)) ∈ lw_all := lw_g (lw_at lw_m9 232 rfl) rfl
theorem q2290 : (Jvm.Cond.code ({ cls := "GathersAllFaultsModel", name := "bound", desc := "(III)I" } : Jvm.MethodName) prog_25_method_5_code (3 : Nat) (Option.some Jvm.ClassFile.FieldType.int)) ∈ lw_all := lw_g (lw_at lw_m9 233 rfl) rfl
theorem q2291 : (Jvm.Cond.methodLink "GathersAllFaultsModel" (253 : Nat) ({ cls := "GathersAllFaultsModel", name := "no", desc := "(I)I" } : Jvm.MethodName)) ∈ lw_all := lw_g (lw_at lw_m9 234 rfl) rfl
theorem q2292 : (Jvm.Cond.privateMethod ({ cls := "GathersAllFaultsModel", name := "no", desc := "(I)I" } : Jvm.MethodName)) ∈ lw_tbl := lw_at lw_m9 235 rfl
theorem q2293 : (Jvm.Cond.instanceMethod ({ cls := "GathersAllFaultsModel", name := "no", desc := "(I)I" } : Jvm.MethodName)) ∈ lw_all := lw_g (lw_at lw_m9 236 rfl) rfl
theorem q2294 : (Jvm.Cond.code ({ cls := "GathersAllFaultsModel", name := "no", desc := "(I)I" } : Jvm.MethodName) prog_25_method_2_code (2 : Nat) (Option.some Jvm.ClassFile.FieldType.int)) ∈ lw_all := lw_g (lw_at lw_m9 237 rfl) rfl
theorem q2296 : (Jvm.Cond.instanceMethod ({ cls := "GathersAllFaultsModel", name := "value", desc := "()I" } : Jvm.MethodName)) ∈ lw_all := lw_g (lw_at lw_m9 239 rfl) rfl
theorem q2297 : (Jvm.Cond.selects "GathersAllFaultsModel" ({ cls := "GathersAllFaultsModel", name := "value", desc := "()I" } : Jvm.MethodName) ({ cls := "GathersAllFaultsModel", name := "value", desc := "()I" } : Jvm.MethodName)) ∈ lw_all := lw_g (lw_at lw_m10 0 rfl) rfl
theorem q2298 : (Jvm.Cond.code ({ cls := "GathersAllFaultsModel", name := "value", desc := "()I" } : Jvm.MethodName) prog_25_method_55_code (2 : Nat) (Option.some Jvm.ClassFile.FieldType.int)) ∈ lw_all := lw_g (lw_at lw_m10 1 rfl) rfl
theorem q2299 : (Jvm.Cond.methodLink "GathersAllFaultsModel" (310 : Nat) ({ cls := "GathersAllFaultsModel", name := "passesValue", desc := "(IZ)V" } : Jvm.MethodName)) ∈ lw_all := lw_g (lw_at lw_m10 2 rfl) rfl
theorem q2300 : (Jvm.Cond.privateMethod ({ cls := "GathersAllFaultsModel", name := "passesValue", desc := "(IZ)V" } : Jvm.MethodName)) ∈ lw_tbl := lw_at lw_m10 3 rfl
theorem q2301 : (Jvm.Cond.instanceMethod ({ cls := "GathersAllFaultsModel", name := "passesValue", desc := "(IZ)V" } : Jvm.MethodName)) ∈ lw_all := lw_g (lw_at lw_m10 4 rfl) rfl
theorem q2302 : (Jvm.Cond.code ({ cls := "GathersAllFaultsModel", name := "passesValue", desc := "(IZ)V" } : Jvm.MethodName) prog_25_method_69_code (3 : Nat) (Option.none : Option Jvm.ClassFile.FieldType)) ∈ lw_all := lw_g (lw_at lw_m10 5 rfl) rfl
theorem q2303 : (Jvm.Cond.methodLink "GathersAllFaultsModel" (360 : Nat) ({ cls := "GathersAllFaultsModel", name := "passes", desc := "([I)V" } : Jvm.MethodName)) ∈ lw_all := lw_g (lw_at lw_m10 6 rfl) rfl
theorem q2304 : (Jvm.Cond.privateMethod ({ cls := "GathersAllFaultsModel", name := "passes", desc := "([I)V" } : Jvm.MethodName)) ∈ lw_tbl := lw_at lw_m10 7 rfl
theorem q2305 : (Jvm.Cond.instanceMethod ({ cls := "GathersAllFaultsModel", name := "passes", desc := "([I)V" } : Jvm.MethodName)) ∈ lw_all := lw_g (lw_at lw_m10 8 rfl) rfl
theorem q2306 : (Jvm.Cond.code ({ cls := "GathersAllFaultsModel", name := "passes", desc := "([I)V" } : Jvm.MethodName) prog_25_method_67_code (3 : Nat) (Option.none : Option Jvm.ClassFile.FieldType)) ∈ lw_all := lw_g (lw_at lw_m10 9 rfl) rfl
theorem q2307 : (Jvm.Cond.methodLink "GathersAllFaultsModel" (364 : Nat) ({ cls := "GathersAllFaultsModel", name := "passOne", desc := "(I)I" } : Jvm.MethodName)) ∈ lw_all := lw_g (lw_at lw_m10 10 rfl) rfl
theorem q2308 : (Jvm.Cond.privateMethod ({ cls := "GathersAllFaultsModel", name := "passOne", desc := "(I)I" } : Jvm.MethodName)) ∈ lw_tbl := lw_at lw_m10 11 rfl
theorem q2309 : (Jvm.Cond.instanceMethod ({ cls := "GathersAllFaultsModel", name := "passOne", desc := "(I)I" } : Jvm.MethodName)) ∈ lw_all := lw_g (lw_at lw_m10 12 rfl) rfl
theorem q2310 : (Jvm.Cond.code ({ cls := "GathersAllFaultsModel", name := "passOne", desc := "(I)I" } : Jvm.MethodName) prog_25_method_68_code (3 : Nat) (Option.some Jvm.ClassFile.FieldType.int)) ∈ lw_all := lw_g (lw_at lw_m10 13 rfl) rfl
theorem q2311 : (Jvm.Cond.methodLink "GathersAllFaultsModel" (314 : Nat) ({ cls := "GathersAllFaultsModel", name := "readsValue", desc := "()Z" } : Jvm.MethodName)) ∈ lw_all := lw_g (lw_at lw_m10 14 rfl) rfl
theorem q2312 : (Jvm.Cond.privateMethod ({ cls := "GathersAllFaultsModel", name := "readsValue", desc := "()Z" } : Jvm.MethodName)) ∈ lw_tbl := lw_at lw_m10 15 rfl
theorem q2313 : (Jvm.Cond.instanceMethod ({ cls := "GathersAllFaultsModel", name := "readsValue", desc := "()Z" } : Jvm.MethodName)) ∈ lw_all := lw_g (lw_at lw_m10 16 rfl) rfl
theorem q2314 : (Jvm.Cond.code ({ cls := "GathersAllFaultsModel", name := "readsValue", desc := "()Z" } : Jvm.MethodName) prog_25_method_54_code (2 : Nat) (Option.some Jvm.ClassFile.FieldType.boolean)) ∈ lw_all := lw_g (lw_at lw_m10 17 rfl) rfl
theorem q2315 : (Jvm.Cond.methodLink "GathersAllFaultsModel" (298 : Nat) ({ cls := "GathersAllFaultsModel", name := "readsPart", desc := "()Z" } : Jvm.MethodName)) ∈ lw_all := lw_g (lw_at lw_m10 18 rfl) rfl
theorem q2316 : (Jvm.Cond.privateMethod ({ cls := "GathersAllFaultsModel", name := "readsPart", desc := "()Z" } : Jvm.MethodName)) ∈ lw_tbl := lw_at lw_m10 19 rfl
theorem q2317 : (Jvm.Cond.instanceMethod ({ cls := "GathersAllFaultsModel", name := "readsPart", desc := "()Z" } : Jvm.MethodName)) ∈ lw_all := lw_g (lw_at lw_m10 20 rfl) rfl
theorem q2318 : (Jvm.Cond.code ({ cls := "GathersAllFaultsModel", name := "readsPart", desc := "()Z" } : Jvm.MethodName) prog_25_method_50_code (3 : Nat) (Option.some Jvm.ClassFile.FieldType.boolean)) ∈ lw_all := lw_g (lw_at lw_m10 21 rfl) rfl
theorem q2319 : (Jvm.Cond.methodLink "GathersAllFaultsModel" (259 : Nat) ({ cls := "GathersAllFaultsModel", name := "sign", desc := "()I" } : Jvm.MethodName)) ∈ lw_all := lw_g (lw_at lw_m10 22 rfl) rfl
theorem q2320 : (Jvm.Cond.privateMethod ({ cls := "GathersAllFaultsModel", name := "sign", desc := "()I" } : Jvm.MethodName)) ∈ lw_tbl := lw_at lw_m10 23 rfl
theorem q2321 : (Jvm.Cond.instanceMethod ({ cls := "GathersAllFaultsModel", name := "sign", desc := "()I" } : Jvm.MethodName)) ∈ lw_all := lw_g (lw_at lw_m10 24 rfl) rfl
theorem q2322 : (Jvm.Cond.code ({ cls := "GathersAllFaultsModel", name := "sign", desc := "()I" } : Jvm.MethodName) prog_25_method_42_code (1 : Nat) (Option.some Jvm.ClassFile.FieldType.int)) ∈ lw_all := lw_g (lw_at lw_m10 25 rfl) rfl
theorem q2323 : (Jvm.Cond.methodLink "GathersAllFaultsModel" (213 : Nat) ({ cls := "GathersAllFaultsModel", name := "isIn", desc := "(III)Z" } : Jvm.MethodName)) ∈ lw_all := lw_g (lw_at lw_m10 26 rfl) rfl
theorem q2324 : (Jvm.Cond.static ({ cls := "GathersAllFaultsModel", name := "isIn", desc := "(III)Z" } : Jvm.MethodName)) ∈ lw_all := lw_g (lw_at lw_m10 27 rfl) rfl
theorem q2325 : (Jvm.Cond.code ({ cls := "GathersAllFaultsModel", name := "isIn", desc := "(III)Z" } : Jvm.MethodName) prog_25_method_4_code (3 : Nat) (Option.some Jvm.ClassFile.FieldType.boolean)) ∈ lw_all := lw_g (lw_at lw_m10 28 rfl) rfl
theorem q2326 : (Jvm.Cond.methodLink "GathersAllFaultsModel" (281 : Nat) ({ cls := "GathersAllFaultsModel", name := "readsNumber", desc := "()Z" } : Jvm.MethodName)) ∈ lw_all := lw_g (lw_at lw_m10 29 rfl) rfl
theorem q2327 : (Jvm.Cond.privateMethod ({ cls := "GathersAllFaultsModel", name := "readsNumber", desc := "()Z" } : Jvm.MethodName)) ∈ lw_tbl := lw_at lw_m10 30 rfl
theorem q2328 : (Jvm.Cond.instanceMethod ({ cls := "GathersAllFaultsModel", name := "readsNumber", desc := "()Z" } : Jvm.MethodName)) ∈ lw_all := lw_g (lw_at lw_m10 31 rfl) rfl
theorem q2329 : (Jvm.Cond.code ({ cls := "GathersAllFaultsModel", name := "readsNumber", desc := "()Z" } : Jvm.MethodName) prog_25_method_49_code (3 : Nat) (Option.some Jvm.ClassFile.FieldType.boolean)) ∈ lw_all := lw_g (lw_at lw_m10 32 rfl) rfl
theorem q2330 : (Jvm.Cond.methodLink "GathersAllFaultsModel" (275 : Nat) ({ cls := "GathersAllFaultsModel", name := "beginsPart", desc := "(II)I" } : Jvm.MethodName)) ∈ lw_all := lw_g (lw_at lw_m10 33 rfl) rfl
theorem q2331 : (Jvm.Cond.privateMethod ({ cls := "GathersAllFaultsModel", name := "beginsPart", desc := "(II)I" } : Jvm.MethodName)) ∈ lw_tbl := lw_at lw_m10 34 rfl
theorem q2332 : (Jvm.Cond.instanceMethod ({ cls := "GathersAllFaultsModel", name := "beginsPart", desc := "(II)I" } : Jvm.MethodName)) ∈ lw_all := lw_g (lw_at lw_m10 35 rfl) rfl
theorem q2333 : (Jvm.Cond.code ({ cls := "GathersAllFaultsModel", name := "beginsPart", desc := "(II)I" } : Jvm.MethodName) prog_25_method_48_code (5 : Nat) (Option.some Jvm.ClassFile.FieldType.int)) ∈ lw_all := lw_g (lw_at lw_m10 36 rfl) rfl
theorem q2334 : (Jvm.Cond.methodLink "GathersAllFaultsModel" (269 : Nat) ({ cls := "GathersAllFaultsModel", name := "isBad", desc := "(I)V" } : Jvm.MethodName)) ∈ lw_all := lw_g (lw_at lw_m10 37 rfl) rfl
theorem q2335 : (Jvm.Cond.privateMethod ({ cls := "GathersAllFaultsModel", name := "isBad", desc := "(I)V" } : Jvm.MethodName)) ∈ lw_tbl := lw_at lw_m10 38 rfl
theorem q2336 : (Jvm.Cond.instanceMethod ({ cls := "GathersAllFaultsModel", name := "isBad", desc := "(I)V" } : Jvm.MethodName)) ∈ lw_all := lw_g (lw_at lw_m10 39 rfl) rfl
theorem q2337 : (Jvm.Cond.code ({ cls := "GathersAllFaultsModel", name := "isBad", desc := "(I)V" } : Jvm.MethodName) prog_25_method_44_code (2 : Nat) (Option.none : Option Jvm.ClassFile.FieldType)) ∈ lw_all := lw_g (lw_at lw_m10 40 rfl) rfl
theorem q2338 : (Jvm.Cond.methodLink "GathersAllFaultsModel" (278 : Nat) ({ cls := "GathersAllFaultsModel", name := "digit", desc := "()I" } : Jvm.MethodName)) ∈ lw_all := lw_g (lw_at lw_m10 41 rfl) rfl
theorem q2339 : (Jvm.Cond.privateMethod ({ cls := "GathersAllFaultsModel", name := "digit", desc := "()I" } : Jvm.MethodName)) ∈ lw_tbl := lw_at lw_m10 42 rfl
theorem q2340 : (Jvm.Cond.instanceMethod ({ cls := "GathersAllFaultsModel", name := "digit", desc := "()I" } : Jvm.MethodName)) ∈ lw_all := lw_g (lw_at lw_m10 43 rfl) rfl
theorem q2341 : (Jvm.Cond.code ({ cls := "GathersAllFaultsModel", name := "digit", desc := "()I" } : Jvm.MethodName) prog_25_method_45_code (1 : Nat) (Option.some Jvm.ClassFile.FieldType.int)) ∈ lw_all := lw_g (lw_at lw_m10 44 rfl) rfl
theorem q2342 : (Jvm.Cond.methodLink "GathersAllFaultsModel" (285 : Nat) ({ cls := "GathersAllFaultsModel", name := "opens", desc := "(IIZ)V" } : Jvm.MethodName)) ∈ lw_all := lw_g (lw_at lw_m10 45 rfl) rfl
theorem q2343 : (Jvm.Cond.privateMethod ({ cls := "GathersAllFaultsModel", name := "opens", desc := "(IIZ)V" } : Jvm.MethodName)) ∈ lw_tbl := lw_at lw_m10 46 rfl
theorem q2344 : (Jvm.Cond.instanceMethod ({ cls := "GathersAllFaultsModel", name := "opens", desc := "(IIZ)V" } : Jvm.MethodName)) ∈ lw_all := lw_g (lw_at lw_m10 47 rfl) rfl
theorem q2345 : (Jvm.Cond.code ({ cls := "GathersAllFaultsModel", name := "opens", desc := "(IIZ)V" } : Jvm.MethodName) prog_25_method_47_code (4 : Nat) (Option.none : Option Jvm.ClassFile.FieldType)) ∈ lw_all := lw_g (lw_at lw_m10 48 rfl) rfl
theorem q2346 : (Jvm.Cond.methodLink "GathersAllFaultsModel" (307 : Nat) ({ cls := "GathersAllFaultsModel", name := "readsInside", desc := "()Z" } : Jvm.MethodName)) ∈ lw_all := lw_g (lw_at lw_m10 49 rfl) rfl
theorem q2347 : (Jvm.Cond.privateMethod ({ cls := "GathersAllFaultsModel", name := "readsInside", desc := "()Z" } : Jvm.MethodName)) ∈ lw_tbl := lw_at lw_m10 50 rfl
theorem q2348 : (Jvm.Cond.instanceMethod ({ cls := "GathersAllFaultsModel", name := "readsInside", desc := "()Z" } : Jvm.MethodName)) ∈ lw_all := lw_g (lw_at lw_m10 51 rfl) rfl
theorem q2349 : (Jvm.Cond.code ({ cls := "GathersAllFaultsModel", name := "readsInside", desc := "()Z" } : Jvm.MethodName) prog_25_method_53_code (1 : Nat) (Option.some Jvm.ClassFile.FieldType.boolean)) ∈ lw_all := lw_g (lw_at lw_m10 52 rfl) rfl
theorem q2350 : (Jvm.Cond.methodLink "GathersAllFaultsModel" (301 : Nat) ({ cls := "GathersAllFaultsModel", name := "closes", desc := "(I)Z" } : Jvm.MethodName)) ∈ lw_all := lw_g (lw_at lw_m10 53 rfl) rfl
theorem q2351 : (Jvm.Cond.privateMethod ({ cls := "GathersAllFaultsModel", name := "closes", desc := "(I)Z" } : Jvm.MethodName)) ∈ lw_tbl := lw_at lw_m10 54 rfl
theorem q2352 : (Jvm.Cond.instanceMethod ({ cls := "GathersAllFaultsModel", name := "closes", desc := "(I)Z" } : Jvm.MethodName)) ∈ lw_all := lw_g (lw_at lw_m10 55 rfl) rfl
theorem q2353 : (Jvm.Cond.code ({ cls := "GathersAllFaultsModel", name := "closes", desc := "(I)Z" } : Jvm.MethodName) prog_25_method_51_code (2 : Nat) (Option.some Jvm.ClassFile.FieldType.boolean)) ∈ lw_all := lw_g (lw_at lw_m10 56 rfl) rfl
theorem q2354 : (Jvm.Cond.methodLink "GathersAllFaultsModel" (289 : Nat) ({ cls := "GathersAllFaultsModel", name := "reads", desc := "(I)Z" } : Jvm.MethodName)) ∈ lw_all := lw_g (lw_at lw_m10 57 rfl) rfl
theorem q2355 : (Jvm.Cond.privateMethod ({ cls := "GathersAllFaultsModel", name := "reads", desc := "(I)Z" } : Jvm.MethodName)) ∈ lw_tbl := lw_at lw_m10 58 rfl
theorem q2356 : (Jvm.Cond.instanceMethod ({ cls := "GathersAllFaultsModel", name := "reads", desc := "(I)Z" } : Jvm.MethodName)) ∈ lw_all := lw_g (lw_at lw_m10 59 rfl) rfl
theorem q2357 : (Jvm.Cond.code ({ cls := "GathersAllFaultsModel", name := "reads", desc := "(I)Z" } : Jvm.MethodName) prog_25_method_43_code (2 : Nat) (Option.some Jvm.ClassFile.FieldType.boolean)) ∈ lw_all := lw_g (lw_at lw_m10 60 rfl) rfl
theorem q2358 : (Jvm.Cond.methodLink "GathersAllFaultsModel" (304 : Nat) ({ cls := "GathersAllFaultsModel", name := "readsField", desc := "()Z" } : Jvm.MethodName)) ∈ lw_all := lw_g (lw_at lw_m10 61 rfl) rfl
theorem q2359 : (Jvm.Cond.privateMethod ({ cls := "GathersAllFaultsModel", name := "readsField", desc := "()Z" } : Jvm.MethodName)) ∈ lw_tbl := lw_at lw_m10 62 rfl
theorem q2360 : (Jvm.Cond.instanceMethod ({ cls := "GathersAllFaultsModel", name := "readsField", desc := "()Z" } : Jvm.MethodName)) ∈ lw_all := lw_g (lw_at lw_m10 63 rfl) rfl
theorem q2361 : (Jvm.Cond.code ({ cls := "GathersAllFaultsModel", name := "readsField", desc := "()Z" } : Jvm.MethodName) prog_25_method_52_code (2 : Nat) (Option.some Jvm.ClassFile.FieldType.boolean)) ∈ lw_all := lw_g (lw_at lw_m10 64 rfl) rfl
theorem q2362 : (Jvm.Cond.methodLink "GathersAllFaultsModel" (292 : Nat) ({ cls := "GathersAllFaultsModel", name := "nameNow", desc := "()I" } : Jvm.MethodName)) ∈ lw_all := lw_g (lw_at lw_m10 65 rfl) rfl
theorem q2363 : (Jvm.Cond.privateMethod ({ cls := "GathersAllFaultsModel", name := "nameNow", desc := "()I" } : Jvm.MethodName)) ∈ lw_tbl := lw_at lw_m10 66 rfl
theorem q2364 : (Jvm.Cond.instanceMethod ({ cls := "GathersAllFaultsModel", name := "nameNow", desc := "()I" } : Jvm.MethodName)) ∈ lw_all := lw_g (lw_at lw_m10 67 rfl) rfl
theorem q2365 : (Jvm.Cond.code ({ cls := "GathersAllFaultsModel", name := "nameNow", desc := "()I" } : Jvm.MethodName) prog_25_method_46_code (1 : Nat) (Option.some Jvm.ClassFile.FieldType.int)) ∈ lw_all := lw_g (lw_at lw_m10 68 rfl) rfl
theorem q2366 : (Jvm.Cond.methodLink "GathersAllFaultsModel" (295 : Nat) ({ cls := "GathersAllFaultsModel", name := "has", desc := "(II)Z" } : Jvm.MethodName)) ∈ lw_all := lw_g (lw_at lw_m10 69 rfl) rfl
theorem q2367 : (Jvm.Cond.static ({ cls := "GathersAllFaultsModel", name := "has", desc := "(II)Z" } : Jvm.MethodName)) ∈ lw_all := lw_g (lw_at lw_m10 70 rfl) rfl
theorem q2368 : (Jvm.Cond.code ({ cls := "GathersAllFaultsModel", name := "has", desc := "(II)Z" } : Jvm.MethodName) prog_25_method_6_code (2 : Nat) (Option.some Jvm.ClassFile.FieldType.boolean)) ∈ lw_all := lw_g (lw_at lw_m10 71 rfl) rfl
theorem q2370 : (Jvm.Cond.instanceMethod ({ cls := "GathersAllFaultsModel", name := "check", desc := "()I" } : Jvm.MethodName)) ∈ lw_all := lw_g (lw_at lw_m10 73 rfl) rfl
theorem q2371 : (Jvm.Cond.selects "GathersAllFaultsModel" ({ cls := "GathersAllFaultsModel", name := "check", desc := "()I" } : Jvm.MethodName) ({ cls := "GathersAllFaultsModel", name := "check", desc := "()I" } : Jvm.MethodName)) ∈ lw_all := lw_g (lw_at lw_m10 74 rfl) rfl
theorem q2372 : (Jvm.Cond.code ({ cls := "GathersAllFaultsModel", name := "check", desc := "()I" } : Jvm.MethodName) prog_25_method_66_code (2 : Nat) (Option.some Jvm.ClassFile.FieldType.int)) ∈ lw_all := lw_g (lw_at lw_m10 75 rfl) rfl
theorem q2373 : (Jvm.Cond.methodLink "GathersAllFaultsModel" (347 : Nat) ({ cls := "GathersAllFaultsModel", name := "passesCheck", desc := "(IZ)V" } : Jvm.MethodName)) ∈ lw_all := lw_g (lw_at lw_m10 76 rfl) rfl
theorem q2374 : (Jvm.Cond.privateMethod ({ cls := "GathersAllFaultsModel", name := "passesCheck", desc := "(IZ)V" } : Jvm.MethodName)) ∈ lw_tbl := lw_at lw_m10 77 rfl
theorem q2375 : (Jvm.Cond.instanceMethod ({ cls := "GathersAllFaultsModel", name := "passesCheck", desc := "(IZ)V" } : Jvm.MethodName)) ∈ lw_all := lw_g (lw_at lw_m10 78 rfl) rfl
theorem q2376 : (Jvm.Cond.code ({ cls := "GathersAllFaultsModel", name := "passesCheck", desc := "(IZ)V" } : Jvm.MethodName) prog_25_method_70_code (3 : Nat) (Option.none : Option Jvm.ClassFile.FieldType)) ∈ lw_all := lw_g (lw_at lw_m10 79 rfl) rfl
theorem q2377 : (Jvm.Cond.methodLink "GathersAllFaultsModel" (350 : Nat) ({ cls := "GathersAllFaultsModel", name := "readsAllCheck", desc := "()Z" } : Jvm.MethodName)) ∈ lw_all := lw_g (lw_at lw_m10 80 rfl) rfl
theorem q2378 : (Jvm.Cond.privateMethod ({ cls := "GathersAllFaultsModel", name := "readsAllCheck", desc := "()Z" } : Jvm.MethodName)) ∈ lw_tbl := lw_at lw_m10 81 rfl
theorem q2379 : (Jvm.Cond.instanceMethod ({ cls := "GathersAllFaultsModel", name := "readsAllCheck", desc := "()Z" } : Jvm.MethodName)) ∈ lw_all := lw_g (lw_at lw_m10 82 rfl) rfl
theorem q2380 : (Jvm.Cond.code ({ cls := "GathersAllFaultsModel", name := "readsAllCheck", desc := "()Z" } : Jvm.MethodName) prog_25_method_65_code (2 : Nat) (Option.some Jvm.ClassFile.FieldType.boolean)) ∈ lw_all := lw_g (lw_at lw_m10 83 rfl) rfl
theorem q2381 : (Jvm.Cond.methodLink "GathersAllFaultsModel" (332 : Nat) ({ cls := "GathersAllFaultsModel", name := "readsCheck", desc := "()Z" } : Jvm.MethodName)) ∈ lw_all := lw_g (lw_at lw_m10 84 rfl) rfl
theorem q2382 : (Jvm.Cond.privateMethod ({ cls := "GathersAllFaultsModel", name := "readsCheck", desc := "()Z" } : Jvm.MethodName)) ∈ lw_tbl := lw_at lw_m10 85 rfl
theorem q2383 : (Jvm.Cond.instanceMethod ({ cls := "GathersAllFaultsModel", name := "readsCheck", desc := "()Z" } : Jvm.MethodName)) ∈ lw_all := lw_g (lw_at lw_m10 86 rfl) rfl
theorem q2384 : (Jvm.Cond.code ({ cls := "GathersAllFaultsModel", name := "readsCheck", desc := "()Z" } : Jvm.MethodName) prog_25_method_60_code (4 : Nat) (Option.some Jvm.ClassFile.FieldType.boolean)) ∈ lw_all := lw_g (lw_at lw_m10 87 rfl) rfl
theorem q2385 : (Jvm.Cond.methodLink "GathersAllFaultsModel" (317 : Nat) ({ cls := "GathersAllFaultsModel", name := "isInside", desc := "()Z" } : Jvm.MethodName)) ∈ lw_all := lw_g (lw_at lw_m10 88 rfl) rfl
theorem q2386 : (Jvm.Cond.privateMethod ({ cls := "GathersAllFaultsModel", name := "isInside", desc := "()Z" } : Jvm.MethodName)) ∈ lw_tbl := lw_at lw_m10 89 rfl
theorem q2387 : (Jvm.Cond.instanceMethod ({ cls := "GathersAllFaultsModel", name := "isInside", desc := "()Z" } : Jvm.MethodName)) ∈ lw_all := lw_g (lw_at lw_m10 90 rfl) rfl
theorem q2388 : (Jvm.Cond.code ({ cls := "GathersAllFaultsModel", name := "isInside", desc := "()Z" } : Jvm.MethodName) prog_25_method_56_code (1 : Nat) (Option.some Jvm.ClassFile.FieldType.boolean)) ∈ lw_all := lw_g (lw_at lw_m10 91 rfl) rfl
theorem q2389 : (Jvm.Cond.methodLink "GathersAllFaultsModel" (323 : Nat) ({ cls := "GathersAllFaultsModel", name := "beginsCheck", desc := "(I)I" } : Jvm.MethodName)) ∈ lw_all := lw_g (lw_at lw_m10 92 rfl) rfl
theorem q2390 : (Jvm.Cond.privateMethod ({ cls := "GathersAllFaultsModel", name := "beginsCheck", desc := "(I)I" } : Jvm.MethodName)) ∈ lw_tbl := lw_at lw_m10 93 rfl
theorem q2391 : (Jvm.Cond.instanceMethod ({ cls := "GathersAllFaultsModel", name := "beginsCheck", desc := "(I)I" } : Jvm.MethodName)) ∈ lw_all := lw_g (lw_at lw_m10 94 rfl) rfl
theorem q2392 : (Jvm.Cond.code ({ cls := "GathersAllFaultsModel", name := "beginsCheck", desc := "(I)I" } : Jvm.MethodName) prog_25_method_57_code (3 : Nat) (Option.some Jvm.ClassFile.FieldType.int)) ∈ lw_all := lw_g (lw_at lw_m10 95 rfl) rfl
theorem q2393 : (Jvm.Cond.methodLink "GathersAllFaultsModel" (326 : Nat) ({ cls := "GathersAllFaultsModel", name := "readsBounds", desc := "(II)Z" } : Jvm.MethodName)) ∈ lw_all := lw_g (lw_at lw_m10 96 rfl) rfl
theorem q2394 : (Jvm.Cond.privateMethod ({ cls := "GathersAllFaultsModel", name := "readsBounds", desc := "(II)Z" } : Jvm.MethodName)) ∈ lw_tbl := lw_at lw_m10 97 rfl
theorem q2395 : (Jvm.Cond.instanceMethod ({ cls := "GathersAllFaultsModel", name := "readsBounds", desc := "(II)Z" } : Jvm.MethodName)) ∈ lw_all := lw_g (lw_at lw_m10 98 rfl) rfl
theorem q2396 : (Jvm.Cond.code ({ cls := "GathersAllFaultsModel", name := "readsBounds", desc := "(II)Z" } : Jvm.MethodName) prog_25_method_58_code (7 : Nat) (Option.some Jvm.ClassFile.FieldType.boolean)) ∈ lw_all := lw_g (lw_at lw_m10 99 rfl) rfl
theorem q2397 : (Jvm.Cond.methodLink "GathersAllFaultsModel" (329 : Nat) ({ cls := "GathersAllFaultsModel", name := "endsCheck", desc := "(I)V" } : Jvm.MethodName)) ∈ lw_all := lw_g (lw_at lw_m10 100 rfl) rfl
theorem q2398 : (Jvm.Cond.privateMethod ({ cls := "GathersAllFaultsModel", name := "endsCheck", desc := "(I)V" } : Jvm.MethodName)) ∈ lw_tbl := lw_at lw_m10 101 rfl
theorem q2399 : (Jvm.Cond.instanceMethod ({ cls := "GathersAllFaultsModel", name := "endsCheck", desc := "(I)V" } : Jvm.MethodName)) ∈ lw_all := lw_g (lw_at lw_m10 102 rfl) rfl
theorem q2400 : (Jvm.Cond.code ({ cls := "GathersAllFaultsModel", name := "endsCheck", desc := "(I)V" } : Jvm.MethodName) prog_25_method_59_code (6 : Nat) (Option.none : Option Jvm.ClassFile.FieldType)) ∈ lw_all := lw_g (lw_at lw_m10 103 rfl) rfl
theorem q2401 : (Jvm.Cond.methodLink "GathersAllFaultsModel" (344 : Nat) ({ cls := "GathersAllFaultsModel", name := "readsInCheck", desc := "()Z" } : Jvm.MethodName)) ∈ lw_all := lw_g (lw_at lw_m10 104 rfl) rfl
theorem q2402 : (Jvm.Cond.privateMethod ({ cls := "GathersAllFaultsModel", name := "readsInCheck", desc := "()Z" } : Jvm.MethodName)) ∈ lw_tbl := lw_at lw_m10 105 rfl
theorem q2403 : (Jvm.Cond.instanceMethod ({ cls := "GathersAllFaultsModel", name := "readsInCheck", desc := "()Z" } : Jvm.MethodName)) ∈ lw_all := lw_g (lw_at lw_m10 106 rfl) rfl
theorem q2404 : (Jvm.Cond.code ({ cls := "GathersAllFaultsModel", name := "readsInCheck", desc := "()Z" } : Jvm.MethodName) prog_25_method_64_code (1 : Nat) (Option.some Jvm.ClassFile.FieldType.boolean)) ∈ lw_all := lw_g (lw_at lw_m10 107 rfl) rfl
theorem q2405 : (Jvm.Cond.methodLink "GathersAllFaultsModel" (335 : Nat) ({ cls := "GathersAllFaultsModel", name := "readsWaiter", desc := "()Z" } : Jvm.MethodName)) ∈ lw_all := lw_g (lw_at lw_m10 108 rfl) rfl
theorem q2406 : (Jvm.Cond.privateMethod ({ cls := "GathersAllFaultsModel", name := "readsWaiter", desc := "()Z" } : Jvm.MethodName)) ∈ lw_tbl := lw_at lw_m10 109 rfl
theorem q2407 : (Jvm.Cond.instanceMethod ({ cls := "GathersAllFaultsModel", name := "readsWaiter", desc := "()Z" } : Jvm.MethodName)) ∈ lw_all := lw_g (lw_at lw_m10 110 rfl) rfl
theorem q2408 : (Jvm.Cond.code ({ cls := "GathersAllFaultsModel", name := "readsWaiter", desc := "()Z" } : Jvm.MethodName) prog_25_method_62_code (6 : Nat) (Option.some Jvm.ClassFile.FieldType.boolean)) ∈ lw_all := lw_g (lw_at lw_m10 111 rfl) rfl
theorem q2409 : (Jvm.Cond.methodLink "GathersAllFaultsModel" (338 : Nat) ({ cls := "GathersAllFaultsModel", name := "closesRecord", desc := "()Z" } : Jvm.MethodName)) ∈ lw_all := lw_g (lw_at lw_m10 112 rfl) rfl
theorem q2410 : (Jvm.Cond.privateMethod ({ cls := "GathersAllFaultsModel", name := "closesRecord", desc := "()Z" } : Jvm.MethodName)) ∈ lw_tbl := lw_at lw_m10 113 rfl
theorem q2411 : (Jvm.Cond.instanceMethod ({ cls := "GathersAllFaultsModel", name := "closesRecord", desc := "()Z" } : Jvm.MethodName)) ∈ lw_all := lw_g (lw_at lw_m10 114 rfl) rfl
theorem q2412 : (Jvm.Cond.code ({ cls := "GathersAllFaultsModel", name := "closesRecord", desc := "()Z" } : Jvm.MethodName) prog_25_method_63_code (1 : Nat) (Option.some Jvm.ClassFile.FieldType.boolean)) ∈ lw_all := lw_g (lw_at lw_m10 115 rfl) rfl
theorem q2413 : (Jvm.Cond.methodLink "GathersAllFaultsModel" (341 : Nat) ({ cls := "GathersAllFaultsModel", name := "readsCheckField", desc := "()Z" } : Jvm.MethodName)) ∈ lw_all := lw_g (lw_at lw_m10 116 rfl) rfl
theorem q2414 : (Jvm.Cond.privateMethod ({ cls := "GathersAllFaultsModel", name := "readsCheckField", desc := "()Z" } : Jvm.MethodName)) ∈ lw_tbl := lw_at lw_m10 117 rfl
theorem q2415 : (Jvm.Cond.instanceMethod ({ cls := "GathersAllFaultsModel", name := "readsCheckField", desc := "()Z" } : Jvm.MethodName)) ∈ lw_all := lw_g (lw_at lw_m10 118 rfl) rfl
theorem q2416 : (Jvm.Cond.code ({ cls := "GathersAllFaultsModel", name := "readsCheckField", desc := "()Z" } : Jvm.MethodName) prog_25_method_61_code (6 : Nat) (Option.some Jvm.ClassFile.FieldType.boolean)) ∈ lw_all := lw_g (lw_at lw_m10 119 rfl) rfl
theorem q2418 : (Jvm.Cond.instanceMethod ({ cls := "GathersAllFaultsModel", name := "image", desc := "()I" } : Jvm.MethodName)) ∈ lw_all := lw_g (lw_at lw_m10 121 rfl) rfl
theorem q2419 : (Jvm.Cond.selects "GathersAllFaultsModel" ({ cls := "GathersAllFaultsModel", name := "image", desc := "()I" } : Jvm.MethodName) ({ cls := "GathersAllFaultsModel", name := "image", desc := "()I" } : Jvm.MethodName)) ∈ lw_all := lw_g (lw_at lw_m10 122 rfl) rfl
theorem q2420 : (Jvm.Cond.code ({ cls := "GathersAllFaultsModel", name := "image", desc := "()I" } : Jvm.MethodName) prog_25_method_73_code (1 : Nat) (Option.some Jvm.ClassFile.FieldType.int)) ∈ lw_all := lw_g (lw_at lw_m10 123 rfl) rfl
theorem q2422 : (Jvm.Cond.instanceMethod ({ cls := "GathersAllFaultsModel", name := "on", desc := "()I" } : Jvm.MethodName)) ∈ lw_all := lw_g (lw_at lw_m10 125 rfl) rfl
theorem q2423 : (Jvm.Cond.selects "GathersAllFaultsModel" ({ cls := "GathersAllFaultsModel", name := "on", desc := "()I" } : Jvm.MethodName) ({ cls := "GathersAllFaultsModel", name := "on", desc := "()I" } : Jvm.MethodName)) ∈ lw_all := lw_g (lw_at lw_m10 126 rfl) rfl
theorem q2424 : (Jvm.Cond.code ({ cls := "GathersAllFaultsModel", name := "on", desc := "()I" } : Jvm.MethodName) prog_25_method_74_code (1 : Nat) (Option.some Jvm.ClassFile.FieldType.int)) ∈ lw_all := lw_g (lw_at lw_m10 127 rfl) rfl
theorem q2426 : (Jvm.Cond.instanceMethod ({ cls := "GathersAllFaultsModel", name := "part", desc := "(II)I" } : Jvm.MethodName)) ∈ lw_all := lw_g (lw_at lw_m10 129 rfl) rfl
theorem q2427 : (Jvm.Cond.selects "GathersAllFaultsModel" ({ cls := "GathersAllFaultsModel", name := "part", desc := "(II)I" } : Jvm.MethodName) ({ cls := "GathersAllFaultsModel", name := "part", desc := "(II)I" } : Jvm.MethodName)) ∈ lw_all := lw_g (lw_at lw_m10 130 rfl) rfl
theorem q2428 : (Jvm.Cond.code ({ cls := "GathersAllFaultsModel", name := "part", desc := "(II)I" } : Jvm.MethodName) prog_25_method_75_code (4 : Nat) (Option.some Jvm.ClassFile.FieldType.int)) ∈ lw_all := lw_g (lw_at lw_m10 131 rfl) rfl
theorem q2429 : (Jvm.Cond.methodLink "GathersAllFaultsModel" (146 : Nat) ({ cls := "GathersAllFaultsModel", name := "partAt", desc := "(I)I" } : Jvm.MethodName)) ∈ lw_all := lw_g (lw_at lw_m10 132 rfl) rfl
theorem q2430 : (Jvm.Cond.privateMethod ({ cls := "GathersAllFaultsModel", name := "partAt", desc := "(I)I" } : Jvm.MethodName)) ∈ lw_tbl := lw_at lw_m10 133 rfl
theorem q2431 : (Jvm.Cond.instanceMethod ({ cls := "GathersAllFaultsModel", name := "partAt", desc := "(I)I" } : Jvm.MethodName)) ∈ lw_all := lw_g (lw_at lw_m10 134 rfl) rfl
theorem q2432 : (Jvm.Cond.code ({ cls := "GathersAllFaultsModel", name := "partAt", desc := "(I)I" } : Jvm.MethodName) prog_25_method_10_code (3 : Nat) (Option.some Jvm.ClassFile.FieldType.int)) ∈ lw_all := lw_g (lw_at lw_m10 135 rfl) rfl
theorem q2434 : (Jvm.Cond.instanceMethod ({ cls := "GathersAllFaultsModel", name := "path", desc := "(I)I" } : Jvm.MethodName)) ∈ lw_all := lw_g (lw_at lw_m10 137 rfl) rfl
theorem q2435 : (Jvm.Cond.selects "GathersAllFaultsModel" ({ cls := "GathersAllFaultsModel", name := "path", desc := "(I)I" } : Jvm.MethodName) ({ cls := "GathersAllFaultsModel", name := "path", desc := "(I)I" } : Jvm.MethodName)) ∈ lw_all := lw_g (lw_at lw_m10 138 rfl) rfl
theorem q2436 : (Jvm.Cond.code ({ cls := "GathersAllFaultsModel", name := "path", desc := "(I)I" } : Jvm.MethodName) prog_25_method_76_code (2 : Nat) (Option.some Jvm.ClassFile.FieldType.int)) ∈ lw_all := lw_g (lw_at lw_m10 139 rfl) rfl
theorem q2438 : (Jvm.Cond.instanceMethod ({ cls := "GathersAllFaultsModel", name := "puts", desc := "(II)I" } : Jvm.MethodName)) ∈ lw_all := lw_g (lw_at lw_m10 141 rfl) rfl
theorem q2439 : (Jvm.Cond.selects "GathersAllFaultsModel" ({ cls := "GathersAllFaultsModel", name := "puts", desc := "(II)I" } : Jvm.MethodName) ({ cls := "GathersAllFaultsModel", name := "puts", desc := "(II)I" } : Jvm.MethodName)) ∈ lw_all := lw_g (lw_at lw_m10 142 rfl) rfl
theorem q2440 : (Jvm.Cond.code ({ cls := "GathersAllFaultsModel", name := "puts", desc := "(II)I" } : Jvm.MethodName) prog_25_method_77_code (6 : Nat) (Option.some Jvm.ClassFile.FieldType.int)) ∈ lw_all := lw_g (lw_at lw_m10 143 rfl) rfl
theorem q2441 : (Jvm.Cond.methodLink "GathersAllFaultsModel" (370 : Nat) ({ cls := "GathersAllFaultsModel", name := "putsAt", desc := "(III)V" } : Jvm.MethodName)) ∈ lw_all := lw_g (lw_at lw_m10 144 rfl) rfl
theorem q2442 : (Jvm.Cond.privateMethod ({ cls := "GathersAllFaultsModel", name := "putsAt", desc := "(III)V" } : Jvm.MethodName)) ∈ lw_tbl := lw_at lw_m10 145 rfl
theorem q2443 : (Jvm.Cond.instanceMethod ({ cls := "GathersAllFaultsModel", name := "putsAt", desc := "(III)V" } : Jvm.MethodName)) ∈ lw_all := lw_g (lw_at lw_m10 146 rfl) rfl
theorem q2444 : (Jvm.Cond.code ({ cls := "GathersAllFaultsModel", name := "putsAt", desc := "(III)V" } : Jvm.MethodName) prog_25_method_14_code (4 : Nat) (Option.none : Option Jvm.ClassFile.FieldType)) ∈ lw_all := lw_g (lw_at lw_m10 147 rfl) rfl
theorem q2445 : (Jvm.Cond.methodLink "GathersAllFaultsModel" (142 : Nat) ({ cls := "GathersAllFaultsModel", name := "takesOut", desc := "(II)V" } : Jvm.MethodName)) ∈ lw_all := lw_g (lw_at lw_m10 148 rfl) rfl
theorem q2446 : (Jvm.Cond.privateMethod ({ cls := "GathersAllFaultsModel", name := "takesOut", desc := "(II)V" } : Jvm.MethodName)) ∈ lw_tbl := lw_at lw_m10 149 rfl
theorem q2447 : (Jvm.Cond.instanceMethod ({ cls := "GathersAllFaultsModel", name := "takesOut", desc := "(II)V" } : Jvm.MethodName)) ∈ lw_all := lw_g (lw_at lw_m10 150 rfl) rfl
theorem q2448 : (Jvm.Cond.code ({ cls := "GathersAllFaultsModel", name := "takesOut", desc := "(II)V" } : Jvm.MethodName) prog_25_method_13_code (4 : Nat) (Option.none : Option Jvm.ClassFile.FieldType)) ∈ lw_all := lw_g (lw_at lw_m10 151 rfl) rfl
theorem q2450 : (Jvm.Cond.instanceMethod ({ cls := "GathersAllFaultsModel", name := "drops", desc := "(I)I" } : Jvm.MethodName)) ∈ lw_all := lw_g (lw_at lw_m10 153 rfl) rfl
theorem q2451 : (Jvm.Cond.selects "GathersAllFaultsModel" ({ cls := "GathersAllFaultsModel", name := "drops", desc := "(I)I" } : Jvm.MethodName) ({ cls := "GathersAllFaultsModel", name := "drops", desc := "(I)I" } : Jvm.MethodName)) ∈ lw_all := lw_g (lw_at lw_m10 154 rfl) rfl
theorem q2452 : (Jvm.Cond.code ({ cls := "GathersAllFaultsModel", name := "drops", desc := "(I)I" } : Jvm.MethodName) prog_25_method_78_code (4 : Nat) (Option.some Jvm.ClassFile.FieldType.int)) ∈ lw_all := lw_g (lw_at lw_m10 155 rfl) rfl
theorem q2454 : (Jvm.Cond.instanceMethod ({ cls := "GathersAllFaultsModel", name := "faults", desc := "()I" } : Jvm.MethodName)) ∈ lw_all := lw_g (lw_at lw_m10 157 rfl) rfl
theorem q2455 : (Jvm.Cond.selects "GathersAllFaultsModel" ({ cls := "GathersAllFaultsModel", name := "faults", desc := "()I" } : Jvm.MethodName) ({ cls := "GathersAllFaultsModel", name := "faults", desc := "()I" } : Jvm.MethodName)) ∈ lw_all := lw_g (lw_at lw_m10 158 rfl) rfl
theorem q2456 : (Jvm.Cond.code ({ cls := "GathersAllFaultsModel", name := "faults", desc := "()I" } : Jvm.MethodName) prog_25_method_80_code (1 : Nat) (Option.some Jvm.ClassFile.FieldType.int)) ∈ lw_all := lw_g (lw_at lw_m10 159 rfl) rfl
theorem q2457 : (Jvm.Cond.methodLink "GathersAllFaultsModel" (376 : Nat) ({ cls := "GathersAllFaultsModel", name := "manyNow", desc := "()I" } : Jvm.MethodName)) ∈ lw_all := lw_g (lw_at lw_m10 160 rfl) rfl
theorem q2458 : (Jvm.Cond.privateMethod ({ cls := "GathersAllFaultsModel", name := "manyNow", desc := "()I" } : Jvm.MethodName)) ∈ lw_tbl := lw_at lw_m10 161 rfl
theorem q2459 : (Jvm.Cond.instanceMethod ({ cls := "GathersAllFaultsModel", name := "manyNow", desc := "()I" } : Jvm.MethodName)) ∈ lw_all := lw_g (lw_at lw_m10 162 rfl) rfl
theorem q2460 : (Jvm.Cond.code ({ cls := "GathersAllFaultsModel", name := "manyNow", desc := "()I" } : Jvm.MethodName) prog_25_method_79_code (1 : Nat) (Option.some Jvm.ClassFile.FieldType.int)) ∈ lw_all := lw_g (lw_at lw_m10 163 rfl) rfl
theorem q2461 : (Jvm.Cond.methodLink "GathersAllFaultsModel" (373 : Nat) ({ cls := "GathersAllFaultsModel", name := "findFaults", desc := "()V" } : Jvm.MethodName)) ∈ lw_all := lw_g (lw_at lw_m10 164 rfl) rfl
theorem q2462 : (Jvm.Cond.privateMethod ({ cls := "GathersAllFaultsModel", name := "findFaults", desc := "()V" } : Jvm.MethodName)) ∈ lw_tbl := lw_at lw_m10 165 rfl
theorem q2463 : (Jvm.Cond.instanceMethod ({ cls := "GathersAllFaultsModel", name := "findFaults", desc := "()V" } : Jvm.MethodName)) ∈ lw_all := lw_g (lw_at lw_m10 166 rfl) rfl
theorem q2464 : (Jvm.Cond.code ({ cls := "GathersAllFaultsModel", name := "findFaults", desc := "()V" } : Jvm.MethodName) prog_25_method_40_code (1 : Nat) (Option.none : Option Jvm.ClassFile.FieldType)) ∈ lw_all := lw_g (lw_at lw_m10 167 rfl) rfl
theorem q2465 : (Jvm.Cond.methodLink "GathersAllFaultsModel" (210 : Nat) ({ cls := "GathersAllFaultsModel", name := "looks", desc := "(II)V" } : Jvm.MethodName)) ∈ lw_all := lw_g (lw_at lw_m10 168 rfl) rfl
theorem q2466 : (Jvm.Cond.privateMethod ({ cls := "GathersAllFaultsModel", name := "looks", desc := "(II)V" } : Jvm.MethodName)) ∈ lw_tbl := lw_at lw_m10 169 rfl
theorem q2467 : (Jvm.Cond.instanceMethod ({ cls := "GathersAllFaultsModel", name := "looks", desc := "(II)V" } : Jvm.MethodName)) ∈ lw_all := lw_g (lw_at lw_m10 170 rfl) rfl
theorem q2468 : (Jvm.Cond.code ({ cls := "GathersAllFaultsModel", name := "looks", desc := "(II)V" } : Jvm.MethodName) prog_25_method_20_code (3 : Nat) (Option.none : Option Jvm.ClassFile.FieldType)) ∈ lw_all := lw_g (lw_at lw_m10 171 rfl) rfl
theorem q2469 : (Jvm.Cond.methodLink "GathersAllFaultsModel" (243 : Nat) ({ cls := "GathersAllFaultsModel", name := "goesOn", desc := "(II)V" } : Jvm.MethodName)) ∈ lw_all := lw_g (lw_at lw_m10 172 rfl) rfl
theorem q2470 : (Jvm.Cond.privateMethod ({ cls := "GathersAllFaultsModel", name := "goesOn", desc := "(II)V" } : Jvm.MethodName)) ∈ lw_tbl := lw_at lw_m10 173 rfl
theorem q2471 : (Jvm.Cond.instanceMethod ({ cls := "GathersAllFaultsModel", name := "goesOn", desc := "(II)V" } : Jvm.MethodName)) ∈ lw_all := lw_g (lw_at lw_m10 174 rfl) rfl
theorem q2472 : (Jvm.Cond.code ({ cls := "GathersAllFaultsModel", name := "goesOn", desc := "(II)V" } : Jvm.MethodName) prog_25_method_39_code (3 : Nat) (Option.none : Option Jvm.ClassFile.FieldType)) ∈ lw_all := lw_g (lw_at lw_m10 175 rfl) rfl
theorem q2473 : (Jvm.Cond.methodLink "GathersAllFaultsModel" (225 : Nat) ({ cls := "GathersAllFaultsModel", name := "findsNumber", desc := "(II)V" } : Jvm.MethodName)) ∈ lw_all := lw_g (lw_at lw_m10 176 rfl) rfl
theorem q2474 : (Jvm.Cond.privateMethod ({ cls := "GathersAllFaultsModel", name := "findsNumber", desc := "(II)V" } : Jvm.MethodName)) ∈ lw_tbl := lw_at lw_m10 177 rfl
theorem q2475 : (Jvm.Cond.instanceMethod ({ cls := "GathersAllFaultsModel", name := "findsNumber", desc := "(II)V" } : Jvm.MethodName)) ∈ lw_all := lw_g (lw_at lw_m10 178 rfl) rfl
theorem q2476 : (Jvm.Cond.code ({ cls := "GathersAllFaultsModel", name := "findsNumber", desc := "(II)V" } : Jvm.MethodName) prog_25_method_23_code (3 : Nat) (Option.none : Option Jvm.ClassFile.FieldType)) ∈ lw_all := lw_g (lw_at lw_m10 179 rfl) rfl
theorem q2477 : (Jvm.Cond.methodLink "GathersAllFaultsModel" (162 : Nat) ({ cls := "GathersAllFaultsModel", name := "finds", desc := "(II)V" } : Jvm.MethodName)) ∈ lw_all := lw_g (lw_at lw_m10 180 rfl) rfl
theorem q2478 : (Jvm.Cond.privateMethod ({ cls := "GathersAllFaultsModel", name := "finds", desc := "(II)V" } : Jvm.MethodName)) ∈ lw_tbl := lw_at lw_m10 181 rfl
theorem q2479 : (Jvm.Cond.instanceMethod ({ cls := "GathersAllFaultsModel", name := "finds", desc := "(II)V" } : Jvm.MethodName)) ∈ lw_all := lw_g (lw_at lw_m10 182 rfl) rfl
theorem q2480 : (Jvm.Cond.code ({ cls := "GathersAllFaultsModel", name := "finds", desc := "(II)V" } : Jvm.MethodName) prog_25_method_21_code (3 : Nat) (Option.none : Option Jvm.ClassFile.FieldType)) ∈ lw_all := lw_g (lw_at lw_m10 183 rfl) rfl
theorem q2481 : (Jvm.Cond.methodLink "GathersAllFaultsModel" (228 : Nat) ({ cls := "GathersAllFaultsModel", name := "findsThere", desc := "(II)V" } : Jvm.MethodName)) ∈ lw_all := lw_g (lw_at lw_m10 184 rfl) rfl
theorem q2482 : (Jvm.Cond.privateMethod ({ cls := "GathersAllFaultsModel", name := "findsThere", desc := "(II)V" } : Jvm.MethodName)) ∈ lw_tbl := lw_at lw_m10 185 rfl
theorem q2483 : (Jvm.Cond.instanceMethod ({ cls := "GathersAllFaultsModel", name := "findsThere", desc := "(II)V" } : Jvm.MethodName)) ∈ lw_all := lw_g (lw_at lw_m10 186 rfl) rfl
theorem q2484 : (Jvm.Cond.code ({ cls := "GathersAllFaultsModel", name := "findsThere", desc := "(II)V" } : Jvm.MethodName) prog_25_method_24_code (3 : Nat) (Option.none : Option Jvm.ClassFile.FieldType)) ∈ lw_all := lw_g (lw_at lw_m10 187 rfl) rfl
theorem q2485 : (Jvm.Cond.methodLink "GathersAllFaultsModel" (165 : Nat) ({ cls := "GathersAllFaultsModel", name := "looksAs", desc := "(I)V" } : Jvm.MethodName)) ∈ lw_all := lw_g (lw_at lw_m10 188 rfl) rfl
theorem q2486 : (Jvm.Cond.privateMethod ({ cls := "GathersAllFaultsModel", name := "looksAs", desc := "(I)V" } : Jvm.MethodName)) ∈ lw_tbl := lw_at lw_m10 189 rfl
theorem q2487 : (Jvm.Cond.instanceMethod ({ cls := "GathersAllFaultsModel", name := "looksAs", desc := "(I)V" } : Jvm.MethodName)) ∈ lw_all := lw_g (lw_at lw_m10 190 rfl) rfl
theorem q2488 : (Jvm.Cond.code ({ cls := "GathersAllFaultsModel", name := "looksAs", desc := "(I)V" } : Jvm.MethodName) prog_25_method_22_code (2 : Nat) (Option.none : Option Jvm.ClassFile.FieldType)) ∈ lw_all := lw_g (lw_at lw_m10 191 rfl) rfl
theorem q2489 : (Jvm.Cond.methodLink "GathersAllFaultsModel" (231 : Nat) ({ cls := "GathersAllFaultsModel", name := "findsRecord", desc := "(II)V" } : Jvm.MethodName)) ∈ lw_all := lw_g (lw_at lw_m10 192 rfl) rfl
theorem q2490 : (Jvm.Cond.privateMethod ({ cls := "GathersAllFaultsModel", name := "findsRecord", desc := "(II)V" } : Jvm.MethodName)) ∈ lw_tbl := lw_at lw_m10 193 rfl
theorem q2491 : (Jvm.Cond.instanceMethod ({ cls := "GathersAllFaultsModel", name := "findsRecord", desc := "(II)V" } : Jvm.MethodName)) ∈ lw_all := lw_g (lw_at lw_m10 194 rfl) rfl
theorem q2492 : (Jvm.Cond.code ({ cls := "GathersAllFaultsModel", name := "findsRecord", desc := "(II)V" } : Jvm.MethodName) prog_25_method_32_code (6 : Nat) (Option.none : Option Jvm.ClassFile.FieldType)) ∈ lw_all := lw_g (lw_at lw_m10 195 rfl) rfl
theorem q2493 : (Jvm.Cond.methodLink "GathersAllFaultsModel" (204 : Nat) ({ cls := "GathersAllFaultsModel", name := "fieldAt", desc := "(II)I" } : Jvm.MethodName)) ∈ lw_all := lw_g (lw_at lw_m10 196 rfl) rfl
theorem q2494 : (Jvm.Cond.privateMethod ({ cls := "GathersAllFaultsModel", name := "fieldAt", desc := "(II)I" } : Jvm.MethodName)) ∈ lw_tbl := lw_at lw_m10 197 rfl
theorem q2495 : (Jvm.Cond.instanceMethod ({ cls := "GathersAllFaultsModel", name := "fieldAt", desc := "(II)I" } : Jvm.MethodName)) ∈ lw_all := lw_g (lw_at lw_m10 198 rfl) rfl
theorem q2496 : (Jvm.Cond.code ({ cls := "GathersAllFaultsModel", name := "fieldAt", desc := "(II)I" } : Jvm.MethodName) prog_25_method_25_code (5 : Nat) (Option.some Jvm.ClassFile.FieldType.int)) ∈ lw_all := lw_g (lw_at lw_m10 199 rfl) rfl
theorem q2497 : (Jvm.Cond.methodLink "GathersAllFaultsModel" (207 : Nat) ({ cls := "GathersAllFaultsModel", name := "endsRecord", desc := "(II)V" } : Jvm.MethodName)) ∈ lw_all := lw_g (lw_at lw_m10 200 rfl) rfl
theorem q2498 : (Jvm.Cond.privateMethod ({ cls := "GathersAllFaultsModel", name := "endsRecord", desc := "(II)V" } : Jvm.MethodName)) ∈ lw_tbl := lw_at lw_m10 201 rfl
theorem q2499 : (Jvm.Cond.instanceMethod ({ cls := "GathersAllFaultsModel", name := "endsRecord", desc := "(II)V" } : Jvm.MethodName)) ∈ lw_all := lw_g (lw_at lw_m10 202 rfl) rfl
theorem q2500 : (Jvm.Cond.code ({ cls := "GathersAllFaultsModel", name := "endsRecord", desc := "(II)V" } : Jvm.MethodName) prog_25_method_31_code (5 : Nat) (Option.none : Option Jvm.ClassFile.FieldType)) ∈ lw_all := lw_g (lw_at lw_m10 203 rfl) rfl
theorem q2501 : (Jvm.Cond.methodLink "GathersAllFaultsModel" (194 : Nat) ({ cls := "GathersAllFaultsModel", name := "findsMore", desc := "(II)V" } : Jvm.MethodName)) ∈ lw_all := lw_g (lw_at lw_m10 204 rfl) rfl
theorem q2502 : (Jvm.Cond.privateMethod ({ cls := "GathersAllFaultsModel", name := "findsMore", desc := "(II)V" } : Jvm.MethodName)) ∈ lw_tbl := lw_at lw_m10 205 rfl
theorem q2503 : (Jvm.Cond.instanceMethod ({ cls := "GathersAllFaultsModel", name := "findsMore", desc := "(II)V" } : Jvm.MethodName)) ∈ lw_all := lw_g (lw_at lw_m10 206 rfl) rfl
theorem q2504 : (Jvm.Cond.code ({ cls := "GathersAllFaultsModel", name := "findsMore", desc := "(II)V" } : Jvm.MethodName) prog_25_method_27_code (5 : Nat) (Option.none : Option Jvm.ClassFile.FieldType)) ∈ lw_all := lw_g (lw_at lw_m10 207 rfl) rfl
theorem q2505 : (Jvm.Cond.methodLink "GathersAllFaultsModel" (138 : Nat) ({ cls := "GathersAllFaultsModel", name := "childOf", desc := "(II)I" } : Jvm.MethodName)) ∈ lw_all := lw_g (lw_at lw_m10 208 rfl) rfl
theorem q2506 : (Jvm.Cond.privateMethod ({ cls := "GathersAllFaultsModel", name := "childOf", desc := "(II)I" } : Jvm.MethodName)) ∈ lw_tbl := lw_at lw_m10 209 rfl
theorem q2507 : (Jvm.Cond.instanceMethod ({ cls := "GathersAllFaultsModel", name := "childOf", desc := "(II)I" } : Jvm.MethodName)) ∈ lw_all := lw_g (lw_at lw_m10 210 rfl) rfl
theorem q2508 : (Jvm.Cond.code ({ cls := "GathersAllFaultsModel", name := "childOf", desc := "(II)I" } : Jvm.MethodName) prog_25_method_11_code (5 : Nat) (Option.some Jvm.ClassFile.FieldType.int)) ∈ lw_all := lw_g (lw_at lw_m10 211 rfl) rfl
theorem q2509 : (Jvm.Cond.methodLink "GathersAllFaultsModel" (172 : Nat) ({ cls := "GathersAllFaultsModel", name := "isToldField", desc := "(II)Z" } : Jvm.MethodName)) ∈ lw_all := lw_g (lw_at lw_m10 212 rfl) rfl
theorem q2510 : (Jvm.Cond.privateMethod ({ cls := "GathersAllFaultsModel", name := "isToldField", desc := "(II)Z" } : Jvm.MethodName)) ∈ lw_tbl := lw_at lw_m10 213 rfl
theorem q2511 : (Jvm.Cond.instanceMethod ({ cls := "GathersAllFaultsModel", name := "isToldField", desc := "(II)Z" } : Jvm.MethodName)) ∈ lw_all := lw_g (lw_at lw_m10 214 rfl) rfl
theorem q2512 : (Jvm.Cond.code ({ cls := "GathersAllFaultsModel", name := "isToldField", desc := "(II)Z" } : Jvm.MethodName) prog_25_method_26_code (4 : Nat) (Option.some Jvm.ClassFile.FieldType.boolean)) ∈ lw_all := lw_g (lw_at lw_m10 215 rfl) rfl
theorem q2513 : (Jvm.Cond.methodLink "GathersAllFaultsModel" (200 : Nat) ({ cls := "GathersAllFaultsModel", name := "findsWaiter", desc := "(III)V" } : Jvm.MethodName)) ∈ lw_all := lw_g (lw_at lw_m10 216 rfl) rfl
theorem q2514 : (Jvm.Cond.privateMethod ({ cls := "GathersAllFaultsModel", name := "findsWaiter", desc := "(III)V" } : Jvm.MethodName)) ∈ lw_tbl := lw_at lw_m10 217 rfl
theorem q2515 : (Jvm.Cond.instanceMethod ({ cls := "GathersAllFaultsModel", name := "findsWaiter", desc := "(III)V" } : Jvm.MethodName)) ∈ lw_all := lw_g (lw_at lw_m10 218 rfl) rfl
theorem q2516 : (Jvm.Cond.code ({ cls := "GathersAllFaultsModel", name := "findsWaiter", desc := "(III)V" } : Jvm.MethodName) prog_25_method_30_code (6 : Nat) (Option.none : Option Jvm.ClassFile.FieldType)) ∈ lw_all := lw_g (lw_at lw_m10 219 rfl) rfl
theorem q2517 : (Jvm.Cond.methodLink "GathersAllFaultsModel" (179 : Nat) ({ cls := "GathersAllFaultsModel", name := "fieldOf", desc := "(II)I" } : Jvm.MethodName)) ∈ lw_all := lw_g (lw_at lw_m10 220 rfl) rfl
theorem q2518 : (Jvm.Cond.privateMethod ({ cls := "GathersAllFaultsModel", name := "fieldOf", desc := "(II)I" } : Jvm.MethodName)) ∈ lw_tbl := lw_at lw_m10 221 rfl
theorem q2519 : (Jvm.Cond.instanceMethod ({ cls := "GathersAllFaultsModel", name := "fieldOf", desc := "(II)I" } : Jvm.MethodName)) ∈ lw_all := lw_g (lw_at lw_m10 222 rfl) rfl
theorem q2520 : (Jvm.Cond.code ({ cls := "GathersAllFaultsModel", name := "fieldOf", desc := "(II)I" } : Jvm.MethodName) prog_25_method_12_code (4 : Nat) (Option.some Jvm.ClassFile.FieldType.int)) ∈ lw_all := lw_g (lw_at lw_m10 223 rfl) rfl
theorem q2521 : (Jvm.Cond.methodLink "GathersAllFaultsModel" (182 : Nat) ({ cls := "GathersAllFaultsModel", name := "isAnyBelow", desc := "(II)Z" } : Jvm.MethodName)) ∈ lw_all := lw_g (lw_at lw_m10 224 rfl) rfl
theorem q2522 : (Jvm.Cond.privateMethod ({ cls := "GathersAllFaultsModel", name := "isAnyBelow", desc := "(II)Z" } : Jvm.MethodName)) ∈ lw_tbl := lw_at lw_m10 225 rfl
theorem q2523 : (Jvm.Cond.instanceMethod ({ cls := "GathersAllFaultsModel", name := "isAnyBelow", desc := "(II)Z" } : Jvm.MethodName)) ∈ lw_all := lw_g (lw_at lw_m10 226 rfl) rfl
theorem q2524 : (Jvm.Cond.code ({ cls := "GathersAllFaultsModel", name := "isAnyBelow", desc := "(II)Z" } : Jvm.MethodName) prog_25_method_28_code (4 : Nat) (Option.some Jvm.ClassFile.FieldType.boolean)) ∈ lw_all := lw_g (lw_at lw_m10 227 rfl) rfl
theorem q2525 : (Jvm.Cond.methodLink "GathersAllFaultsModel" (176 : Nat) ({ cls := "GathersAllFaultsModel", name := "isBelow", desc := "(II)Z" } : Jvm.MethodName)) ∈ lw_all := lw_g (lw_at lw_m10 228 rfl) rfl
theorem q2526 : (Jvm.Cond.static ({ cls := "GathersAllFaultsModel", name := "isBelow", desc := "(II)Z" } : Jvm.MethodName)) ∈ lw_all := lw_g (lw_at lw_m10 229 rfl) rfl
theorem q2527 : (Jvm.Cond.code ({ cls := "GathersAllFaultsModel", name := "isBelow", desc := "(II)Z" } : Jvm.MethodName) prog_25_method_19_code (3 : Nat) (Option.some Jvm.ClassFile.FieldType.boolean)) ∈ lw_all := lw_g (lw_at lw_m10 230 rfl) rfl
theorem q2528 : (Jvm.Cond.methodLink "GathersAllFaultsModel" (188 : Nat) ({ cls := "GathersAllFaultsModel", name := "isLess", desc := "(II)Z" } : Jvm.MethodName)) ∈ lw_all := lw_g (lw_at lw_m10 231 rfl) rfl
theorem q2529 : (Jvm.Cond.privateMethod ({ cls := "GathersAllFaultsModel", name := "isLess", desc := "(II)Z" } : Jvm.MethodName)) ∈ lw_tbl := lw_at lw_m10 232 rfl
theorem q2530 : (Jvm.Cond.instanceMethod ({ cls := "GathersAllFaultsModel", name := "isLess", desc := "(II)Z" } : Jvm.MethodName)) ∈ lw_all := lw_g (lw_at lw_m10 233 rfl) rfl
theorem q2531 : (Jvm.Cond.code ({ cls := "GathersAllFaultsModel", name := "isLess", desc := "(II)Z" } : Jvm.MethodName) prog_25_method_29_code (3 : Nat) (Option.some Jvm.ClassFile.FieldType.boolean)) ∈ lw_all := lw_g (lw_at lw_m10 234 rfl) rfl
theorem q2532 : (Jvm.Cond.methodLink "GathersAllFaultsModel" (191 : Nat) ({ cls := "GathersAllFaultsModel", name := "areSame", desc := "(II)Z" } : Jvm.MethodName)) ∈ lw_all := lw_g (lw_at lw_m10 235 rfl) rfl
theorem q2533 : (Jvm.Cond.privateMethod ({ cls := "GathersAllFaultsModel", name := "areSame", desc := "(II)Z" } : Jvm.MethodName)) ∈ lw_tbl := lw_at lw_m10 236 rfl
theorem q2534 : (Jvm.Cond.instanceMethod ({ cls := "GathersAllFaultsModel", name := "areSame", desc := "(II)Z" } : Jvm.MethodName)) ∈ lw_all := lw_g (lw_at lw_m10 237 rfl) rfl
theorem q2535 : (Jvm.Cond.code ({ cls := "GathersAllFaultsModel", name := "areSame", desc := "(II)Z" } : Jvm.MethodName) prog_25_method_18_code (4 : Nat) (Option.some Jvm.ClassFile.FieldType.boolean)) ∈ lw_all := lw_g (lw_at lw_m10 238 rfl) rfl
theorem q2536 : (Jvm.Cond.methodLink "GathersAllFaultsModel" (152 : Nat) ({ cls := "GathersAllFaultsModel", name := "hasAlike", desc := "(III)Z" } : Jvm.MethodName)) ∈ lw_all := lw_g (lw_at lw_m10 239 rfl) rfl
theorem q2537 : (Jvm.Cond.privateMethod ({ cls := "GathersAllFaultsModel", name := "hasAlike", desc := "(III)Z" } : Jvm.MethodName)) ∈ lw_tbl := lw_at lw_m11 0 rfl
theorem q2538 : (Jvm.Cond.instanceMethod ({ cls := "GathersAllFaultsModel", name := "hasAlike", desc := "(III)Z" } : Jvm.MethodName)) ∈ lw_all := lw_g (lw_at lw_m11 1 rfl) rfl
theorem q2539 : (Jvm.Cond.code ({ cls := "GathersAllFaultsModel", name := "hasAlike", desc := "(III)Z" } : Jvm.MethodName) prog_25_method_17_code (6 : Nat) (Option.some Jvm.ClassFile.FieldType.boolean)) ∈ lw_all := lw_g (lw_at lw_m11 2 rfl) rfl
theorem q2540 : (Jvm.Cond.methodLink "GathersAllFaultsModel" (149 : Nat) ({ cls := "GathersAllFaultsModel", name := "unitFor", desc := "(II)I" } : Jvm.MethodName)) ∈ lw_all := lw_g (lw_at lw_m11 3 rfl) rfl
theorem q2541 : (Jvm.Cond.static ({ cls := "GathersAllFaultsModel", name := "unitFor", desc := "(II)I" } : Jvm.MethodName)) ∈ lw_all := lw_g (lw_at lw_m11 4 rfl) rfl
theorem q2542 : (Jvm.Cond.code ({ cls := "GathersAllFaultsModel", name := "unitFor", desc := "(II)I" } : Jvm.MethodName) prog_25_method_16_code (4 : Nat) (Option.some Jvm.ClassFile.FieldType.int)) ∈ lw_all := lw_g (lw_at lw_m11 5 rfl) rfl
theorem q2543 : (Jvm.Cond.methodLink "GathersAllFaultsModel" (234 : Nat) ({ cls := "GathersAllFaultsModel", name := "findsList", desc := "(II)V" } : Jvm.MethodName)) ∈ lw_all := lw_g (lw_at lw_m11 6 rfl) rfl
theorem q2544 : (Jvm.Cond.privateMethod ({ cls := "GathersAllFaultsModel", name := "findsList", desc := "(II)V" } : Jvm.MethodName)) ∈ lw_tbl := lw_at lw_m11 7 rfl
theorem q2545 : (Jvm.Cond.instanceMethod ({ cls := "GathersAllFaultsModel", name := "findsList", desc := "(II)V" } : Jvm.MethodName)) ∈ lw_all := lw_g (lw_at lw_m11 8 rfl) rfl
theorem q2546 : (Jvm.Cond.code ({ cls := "GathersAllFaultsModel", name := "findsList", desc := "(II)V" } : Jvm.MethodName) prog_25_method_33_code (4 : Nat) (Option.none : Option Jvm.ClassFile.FieldType)) ∈ lw_all := lw_g (lw_at lw_m11 9 rfl) rfl
theorem q2547 : (Jvm.Cond.methodLink "GathersAllFaultsModel" (237 : Nat) ({ cls := "GathersAllFaultsModel", name := "findsAgain", desc := "(II)V" } : Jvm.MethodName)) ∈ lw_all := lw_g (lw_at lw_m11 10 rfl) rfl
theorem q2548 : (Jvm.Cond.privateMethod ({ cls := "GathersAllFaultsModel", name := "findsAgain", desc := "(II)V" } : Jvm.MethodName)) ∈ lw_tbl := lw_at lw_m11 11 rfl
theorem q2549 : (Jvm.Cond.instanceMethod ({ cls := "GathersAllFaultsModel", name := "findsAgain", desc := "(II)V" } : Jvm.MethodName)) ∈ lw_all := lw_g (lw_at lw_m11 12 rfl) rfl
theorem q2550 : (Jvm.Cond.code ({ cls := "GathersAllFaultsModel", name := "findsAgain", desc := "(II)V" } : Jvm.MethodName) prog_25_method_35_code (4 : Nat) (Option.none : Option Jvm.ClassFile.FieldType)) ∈ lw_all := lw_g (lw_at lw_m11 13 rfl) rfl
theorem q2551 : (Jvm.Cond.methodLink "GathersAllFaultsModel" (216 : Nat) ({ cls := "GathersAllFaultsModel", name := "isAgain", desc := "(II)Z" } : Jvm.MethodName)) ∈ lw_all := lw_g (lw_at lw_m11 14 rfl) rfl
theorem q2552 : (Jvm.Cond.privateMethod ({ cls := "GathersAllFaultsModel", name := "isAgain", desc := "(II)Z" } : Jvm.MethodName)) ∈ lw_tbl := lw_at lw_m11 15 rfl
theorem q2553 : (Jvm.Cond.instanceMethod ({ cls := "GathersAllFaultsModel", name := "isAgain", desc := "(II)Z" } : Jvm.MethodName)) ∈ lw_all := lw_g (lw_at lw_m11 16 rfl) rfl
theorem q2554 : (Jvm.Cond.code ({ cls := "GathersAllFaultsModel", name := "isAgain", desc := "(II)Z" } : Jvm.MethodName) prog_25_method_34_code (4 : Nat) (Option.some Jvm.ClassFile.FieldType.boolean)) ∈ lw_all := lw_g (lw_at lw_m11 17 rfl) rfl
theorem q2555 : (Jvm.Cond.methodLink "GathersAllFaultsModel" (240 : Nat) ({ cls := "GathersAllFaultsModel", name := "findsEither", desc := "(II)V" } : Jvm.MethodName)) ∈ lw_all := lw_g (lw_at lw_m11 18 rfl) rfl
theorem q2556 : (Jvm.Cond.privateMethod ({ cls := "GathersAllFaultsModel", name := "findsEither", desc := "(II)V" } : Jvm.MethodName)) ∈ lw_tbl := lw_at lw_m11 19 rfl
theorem q2557 : (Jvm.Cond.instanceMethod ({ cls := "GathersAllFaultsModel", name := "findsEither", desc := "(II)V" } : Jvm.MethodName)) ∈ lw_all := lw_g (lw_at lw_m11 20 rfl) rfl
theorem q2558 : (Jvm.Cond.code ({ cls := "GathersAllFaultsModel", name := "findsEither", desc := "(II)V" } : Jvm.MethodName) prog_25_method_38_code (4 : Nat) (Option.none : Option Jvm.ClassFile.FieldType)) ∈ lw_all := lw_g (lw_at lw_m11 21 rfl) rfl
theorem q2559 : (Jvm.Cond.methodLink "GathersAllFaultsModel" (222 : Nat) ({ cls := "GathersAllFaultsModel", name := "endsEither", desc := "()V" } : Jvm.MethodName)) ∈ lw_all := lw_g (lw_at lw_m11 22 rfl) rfl
theorem q2560 : (Jvm.Cond.privateMethod ({ cls := "GathersAllFaultsModel", name := "endsEither", desc := "()V" } : Jvm.MethodName)) ∈ lw_tbl := lw_at lw_m11 23 rfl
theorem q2561 : (Jvm.Cond.instanceMethod ({ cls := "GathersAllFaultsModel", name := "endsEither", desc := "()V" } : Jvm.MethodName)) ∈ lw_all := lw_g (lw_at lw_m11 24 rfl) rfl
theorem q2562 : (Jvm.Cond.code ({ cls := "GathersAllFaultsModel", name := "endsEither", desc := "()V" } : Jvm.MethodName) prog_25_method_37_code (3 : Nat) (Option.none : Option Jvm.ClassFile.FieldType)) ∈ lw_all := lw_g (lw_at lw_m11 25 rfl) rfl
theorem q2563 : (Jvm.Cond.methodLink "GathersAllFaultsModel" (219 : Nat) ({ cls := "GathersAllFaultsModel", name := "takesSecond", desc := "(II)V" } : Jvm.MethodName)) ∈ lw_all := lw_g (lw_at lw_m11 26 rfl) rfl
theorem q2564 : (Jvm.Cond.privateMethod ({ cls := "GathersAllFaultsModel", name := "takesSecond", desc := "(II)V" } : Jvm.MethodName)) ∈ lw_tbl := lw_at lw_m11 27 rfl
theorem q2565 : (Jvm.Cond.instanceMethod ({ cls := "GathersAllFaultsModel", name := "takesSecond", desc := "(II)V" } : Jvm.MethodName)) ∈ lw_all := lw_g (lw_at lw_m11 28 rfl) rfl
theorem q2566 : (Jvm.Cond.code ({ cls := "GathersAllFaultsModel", name := "takesSecond", desc := "(II)V" } : Jvm.MethodName) prog_25_method_36_code (5 : Nat) (Option.none : Option Jvm.ClassFile.FieldType)) ∈ lw_all := lw_g (lw_at lw_m11 29 rfl) rfl
theorem q2568 : (Jvm.Cond.instanceMethod ({ cls := "GathersAllFaultsModel", name := "fault", desc := "(II)I" } : Jvm.MethodName)) ∈ lw_all := lw_g (lw_at lw_m11 31 rfl) rfl
theorem q2569 : (Jvm.Cond.selects "GathersAllFaultsModel" ({ cls := "GathersAllFaultsModel", name := "fault", desc := "(II)I" } : Jvm.MethodName) ({ cls := "GathersAllFaultsModel", name := "fault", desc := "(II)I" } : Jvm.MethodName)) ∈ lw_all := lw_g (lw_at lw_m11 32 rfl) rfl
theorem q2570 : (Jvm.Cond.code ({ cls := "GathersAllFaultsModel", name := "fault", desc := "(II)I" } : Jvm.MethodName) prog_25_method_81_code (3 : Nat) (Option.some Jvm.ClassFile.FieldType.int)) ∈ lw_all := lw_g (lw_at lw_m11 33 rfl) rfl
theorem q2572 : (Jvm.Cond.instanceMethod ({ cls := "GathersAllFaultsModel", name := "coded", desc := "(I)I" } : Jvm.MethodName)) ∈ lw_all := lw_g (lw_at lw_m11 35 rfl) rfl
theorem q2573 : (Jvm.Cond.selects "GathersAllFaultsModel" ({ cls := "GathersAllFaultsModel", name := "coded", desc := "(I)I" } : Jvm.MethodName) ({ cls := "GathersAllFaultsModel", name := "coded", desc := "(I)I" } : Jvm.MethodName)) ∈ lw_all := lw_g (lw_at lw_m11 36 rfl) rfl
theorem q2574 : (Jvm.Cond.code ({ cls := "GathersAllFaultsModel", name := "coded", desc := "(I)I" } : Jvm.MethodName) prog_25_method_82_code (4 : Nat) (Option.some Jvm.ClassFile.FieldType.int)) ∈ lw_all := lw_g (lw_at lw_m11 37 rfl) rfl
theorem q2576 : (Jvm.Cond.instanceMethod ({ cls := "GathersAllFaultsModel", name := "below", desc := "(I)I" } : Jvm.MethodName)) ∈ lw_all := lw_g (lw_at lw_m11 39 rfl) rfl
theorem q2577 : (Jvm.Cond.selects "GathersAllFaultsModel" ({ cls := "GathersAllFaultsModel", name := "below", desc := "(I)I" } : Jvm.MethodName) ({ cls := "GathersAllFaultsModel", name := "below", desc := "(I)I" } : Jvm.MethodName)) ∈ lw_all := lw_g (lw_at lw_m11 40 rfl) rfl
theorem q2578 : (Jvm.Cond.code ({ cls := "GathersAllFaultsModel", name := "below", desc := "(I)I" } : Jvm.MethodName) prog_25_method_83_code (5 : Nat) (Option.some Jvm.ClassFile.FieldType.int)) ∈ lw_all := lw_g (lw_at lw_m11 41 rfl) rfl
theorem q2579 : (Jvm.Cond.constant "GathersAllFaultsModel" (379 : Nat) (99999 : Int32)) ∈ lw_all := lw_g (lw_at lw_m11 42 rfl) rfl
theorem q2581 : (Jvm.Cond.instanceMethod ({ cls := "GathersAllFaultsModel", name := "waits", desc := "()I" } : Jvm.MethodName)) ∈ lw_all := lw_g (lw_at lw_m11 44 rfl) rfl
theorem q2582 : (Jvm.Cond.selects "GathersAllFaultsModel" ({ cls := "GathersAllFaultsModel", name := "waits", desc := "()I" } : Jvm.MethodName) ({ cls := "GathersAllFaultsModel", name := "waits", desc := "()I" } : Jvm.MethodName)) ∈ lw_all := lw_g (lw_at lw_m11 45 rfl) rfl
theorem q2583 : (Jvm.Cond.code ({ cls := "GathersAllFaultsModel", name := "waits", desc := "()I" } : Jvm.MethodName) prog_25_method_84_code (1 : Nat) (Option.some Jvm.ClassFile.FieldType.int)) ∈ lw_all := lw_g (lw_at lw_m11 46 rfl) rfl
theorem q2585 : (Jvm.Cond.instanceMethod ({ cls := "GathersAllFaultsModel", name := "first", desc := "()I" } : Jvm.MethodName)) ∈ lw_all := lw_g (lw_at lw_m11 48 rfl) rfl
theorem q2586 : (Jvm.Cond.selects "GathersAllFaultsModel" ({ cls := "GathersAllFaultsModel", name := "first", desc := "()I" } : Jvm.MethodName) ({ cls := "GathersAllFaultsModel", name := "first", desc := "()I" } : Jvm.MethodName)) ∈ lw_all := lw_g (lw_at lw_m11 49 rfl) rfl
theorem q2587 : (Jvm.Cond.code ({ cls := "GathersAllFaultsModel", name := "first", desc := "()I" } : Jvm.MethodName) prog_25_method_86_code (1 : Nat) (Option.some Jvm.ClassFile.FieldType.int)) ∈ lw_all := lw_g (lw_at lw_m11 50 rfl) rfl
theorem q2588 : (Jvm.Cond.methodLink "GathersAllFaultsModel" (380 : Nat) ({ cls := "GathersAllFaultsModel", name := "toldAt", desc := "(I)I" } : Jvm.MethodName)) ∈ lw_all := lw_g (lw_at lw_m11 51 rfl) rfl
theorem q2589 : (Jvm.Cond.privateMethod ({ cls := "GathersAllFaultsModel", name := "toldAt", desc := "(I)I" } : Jvm.MethodName)) ∈ lw_tbl := lw_at lw_m11 52 rfl
theorem q2590 : (Jvm.Cond.instanceMethod ({ cls := "GathersAllFaultsModel", name := "toldAt", desc := "(I)I" } : Jvm.MethodName)) ∈ lw_all := lw_g (lw_at lw_m11 53 rfl) rfl
theorem q2591 : (Jvm.Cond.code ({ cls := "GathersAllFaultsModel", name := "toldAt", desc := "(I)I" } : Jvm.MethodName) prog_25_method_85_code (2 : Nat) (Option.some Jvm.ClassFile.FieldType.int)) ∈ lw_all := lw_g (lw_at lw_m11 54 rfl) rfl
theorem q2593 : (Jvm.Cond.instanceMethod ({ cls := "GathersAllFaultsModel", name := "limited", desc := "(II)I" } : Jvm.MethodName)) ∈ lw_all := lw_g (lw_at lw_m11 56 rfl) rfl
theorem q2594 : (Jvm.Cond.selects "GathersAllFaultsModel" ({ cls := "GathersAllFaultsModel", name := "limited", desc := "(II)I" } : Jvm.MethodName) ({ cls := "GathersAllFaultsModel", name := "limited", desc := "(II)I" } : Jvm.MethodName)) ∈ lw_all := lw_g (lw_at lw_m11 57 rfl) rfl
theorem q2595 : (Jvm.Cond.code ({ cls := "GathersAllFaultsModel", name := "limited", desc := "(II)I" } : Jvm.MethodName) prog_25_method_87_code (5 : Nat) (Option.some Jvm.ClassFile.FieldType.int)) ∈ lw_all := lw_g (lw_at lw_m11 58 rfl) rfl
theorem q2597 : (Jvm.Cond.instanceMethod ({ cls := "GathersAllFaultsModel", name := "total", desc := "()I" } : Jvm.MethodName)) ∈ lw_all := lw_g (lw_at lw_m11 60 rfl) rfl
theorem q2598 : (Jvm.Cond.selects "GathersAllFaultsModel" ({ cls := "GathersAllFaultsModel", name := "total", desc := "()I" } : Jvm.MethodName) ({ cls := "GathersAllFaultsModel", name := "total", desc := "()I" } : Jvm.MethodName)) ∈ lw_all := lw_g (lw_at lw_m11 61 rfl) rfl
theorem q2599 : (Jvm.Cond.code ({ cls := "GathersAllFaultsModel", name := "total", desc := "()I" } : Jvm.MethodName) prog_25_method_89_code (1 : Nat) (Option.some Jvm.ClassFile.FieldType.int)) ∈ lw_all := lw_g (lw_at lw_m11 62 rfl) rfl
theorem q2600 : (Jvm.Cond.methodLink "GathersAllFaultsModel" (383 : Nat) ({ cls := "GathersAllFaultsModel", name := "allNumbers", desc := "()I" } : Jvm.MethodName)) ∈ lw_all := lw_g (lw_at lw_m11 63 rfl) rfl
theorem q2601 : (Jvm.Cond.privateMethod ({ cls := "GathersAllFaultsModel", name := "allNumbers", desc := "()I" } : Jvm.MethodName)) ∈ lw_tbl := lw_at lw_m11 64 rfl
theorem q2602 : (Jvm.Cond.instanceMethod ({ cls := "GathersAllFaultsModel", name := "allNumbers", desc := "()I" } : Jvm.MethodName)) ∈ lw_all := lw_g (lw_at lw_m11 65 rfl) rfl
theorem q2603 : (Jvm.Cond.code ({ cls := "GathersAllFaultsModel", name := "allNumbers", desc := "()I" } : Jvm.MethodName) prog_25_method_88_code (3 : Nat) (Option.some Jvm.ClassFile.FieldType.int)) ∈ lw_all := lw_g (lw_at lw_m11 66 rfl) rfl
theorem q2605 : (Jvm.Cond.instanceMethod ({ cls := "GathersAllFaultsModel", name := "same", desc := "(II)I" } : Jvm.MethodName)) ∈ lw_all := lw_g (lw_at lw_m11 68 rfl) rfl
theorem q2606 : (Jvm.Cond.selects "GathersAllFaultsModel" ({ cls := "GathersAllFaultsModel", name := "same", desc := "(II)I" } : Jvm.MethodName) ({ cls := "GathersAllFaultsModel", name := "same", desc := "(II)I" } : Jvm.MethodName)) ∈ lw_all := lw_g (lw_at lw_m11 69 rfl) rfl
theorem q2607 : (Jvm.Cond.code ({ cls := "GathersAllFaultsModel", name := "same", desc := "(II)I" } : Jvm.MethodName) prog_25_method_90_code (3 : Nat) (Option.some Jvm.ClassFile.FieldType.int)) ∈ lw_all := lw_g (lw_at lw_m11 70 rfl) rfl
theorem q2609 : (Jvm.Cond.instanceMethod ({ cls := "GathersAllFaultsModel", name := "different", desc := "()I" } : Jvm.MethodName)) ∈ lw_all := lw_g (lw_at lw_m11 72 rfl) rfl
theorem q2610 : (Jvm.Cond.selects "GathersAllFaultsModel" ({ cls := "GathersAllFaultsModel", name := "different", desc := "()I" } : Jvm.MethodName) ({ cls := "GathersAllFaultsModel", name := "different", desc := "()I" } : Jvm.MethodName)) ∈ lw_all := lw_g (lw_at lw_m11 73 rfl) rfl
theorem q2611 : (Jvm.Cond.code ({ cls := "GathersAllFaultsModel", name := "different", desc := "()I" } : Jvm.MethodName) prog_25_method_92_code (3 : Nat) (Option.some Jvm.ClassFile.FieldType.int)) ∈ lw_all := lw_g (lw_at lw_m11 74 rfl) rfl
theorem q2612 : (Jvm.Cond.methodLink "GathersAllFaultsModel" (386 : Nat) ({ cls := "GathersAllFaultsModel", name := "alike", desc := "(II)I" } : Jvm.MethodName)) ∈ lw_all := lw_g (lw_at lw_m11 75 rfl) rfl
theorem q2613 : (Jvm.Cond.privateMethod ({ cls := "GathersAllFaultsModel", name := "alike", desc := "(II)I" } : Jvm.MethodName)) ∈ lw_tbl := lw_at lw_m11 76 rfl
theorem q2614 : (Jvm.Cond.instanceMethod ({ cls := "GathersAllFaultsModel", name := "alike", desc := "(II)I" } : Jvm.MethodName)) ∈ lw_all := lw_g (lw_at lw_m11 77 rfl) rfl
theorem q2615 : (Jvm.Cond.code ({ cls := "GathersAllFaultsModel", name := "alike", desc := "(II)I" } : Jvm.MethodName) prog_25_method_91_code (5 : Nat) (Option.some Jvm.ClassFile.FieldType.int)) ∈ lw_all := lw_g (lw_at lw_m11 78 rfl) rfl
theorem q2617 : (Jvm.Cond.instanceMethod ({ cls := "GathersAllFaultsModel", name := "often", desc := "(I)I" } : Jvm.MethodName)) ∈ lw_all := lw_g (lw_at lw_m11 80 rfl) rfl
theorem q2618 : (Jvm.Cond.selects "GathersAllFaultsModel" ({ cls := "GathersAllFaultsModel", name := "often", desc := "(I)I" } : Jvm.MethodName) ({ cls := "GathersAllFaultsModel", name := "often", desc := "(I)I" } : Jvm.MethodName)) ∈ lw_all := lw_g (lw_at lw_m11 81 rfl) rfl
theorem q2619 : (Jvm.Cond.code ({ cls := "GathersAllFaultsModel", name := "often", desc := "(I)I" } : Jvm.MethodName) prog_25_method_93_code (4 : Nat) (Option.some Jvm.ClassFile.FieldType.int)) ∈ lw_all := lw_g (lw_at lw_m11 82 rfl) rfl
theorem q2621 : (Jvm.Cond.instanceMethod ({ cls := "GathersAllFaultsModel", name := "without", desc := "(I)I" } : Jvm.MethodName)) ∈ lw_all := lw_g (lw_at lw_m11 84 rfl) rfl
theorem q2622 : (Jvm.Cond.selects "GathersAllFaultsModel" ({ cls := "GathersAllFaultsModel", name := "without", desc := "(I)I" } : Jvm.MethodName) ({ cls := "GathersAllFaultsModel", name := "without", desc := "(I)I" } : Jvm.MethodName)) ∈ lw_all := lw_g (lw_at lw_m11 85 rfl) rfl
theorem q2623 : (Jvm.Cond.code ({ cls := "GathersAllFaultsModel", name := "without", desc := "(I)I" } : Jvm.MethodName) prog_25_method_94_code (5 : Nat) (Option.some Jvm.ClassFile.FieldType.int)) ∈ lw_all := lw_g (lw_at lw_m11 86 rfl) rfl
theorem q2624 : (Jvm.Cond.methodLink "GathersAllFaultsModel" (389 : Nat) ({ cls := "GathersAllFaultsModel", name := "minds", desc := "()V" } : Jvm.MethodName)) ∈ lw_all := lw_g (lw_at lw_m11 87 rfl) rfl
theorem q2625 : (Jvm.Cond.privateMethod ({ cls := "GathersAllFaultsModel", name := "minds", desc := "()V" } : Jvm.MethodName)) ∈ lw_tbl := lw_at lw_m11 88 rfl
theorem q2626 : (Jvm.Cond.instanceMethod ({ cls := "GathersAllFaultsModel", name := "minds", desc := "()V" } : Jvm.MethodName)) ∈ lw_all := lw_g (lw_at lw_m11 89 rfl) rfl
theorem q2627 : (Jvm.Cond.code ({ cls := "GathersAllFaultsModel", name := "minds", desc := "()V" } : Jvm.MethodName) prog_25_method_71_code (1 : Nat) (Option.none : Option Jvm.ClassFile.FieldType)) ∈ lw_all := lw_g (lw_at lw_m11 90 rfl) rfl
theorem q2628 : (Jvm.Cond.methodLink "GathersAllFaultsModel" (392 : Nat) ({ cls := "GathersAllFaultsModel", name := "leavesOut", desc := "(I)V" } : Jvm.MethodName)) ∈ lw_all := lw_g (lw_at lw_m11 91 rfl) rfl
theorem q2629 : (Jvm.Cond.privateMethod ({ cls := "GathersAllFaultsModel", name := "leavesOut", desc := "(I)V" } : Jvm.MethodName)) ∈ lw_tbl := lw_at lw_m11 92 rfl
theorem q2630 : (Jvm.Cond.instanceMethod ({ cls := "GathersAllFaultsModel", name := "leavesOut", desc := "(I)V" } : Jvm.MethodName)) ∈ lw_all := lw_g (lw_at lw_m11 93 rfl) rfl
theorem q2631 : (Jvm.Cond.code ({ cls := "GathersAllFaultsModel", name := "leavesOut", desc := "(I)V" } : Jvm.MethodName) prog_25_method_15_code (2 : Nat) (Option.none : Option Jvm.ClassFile.FieldType)) ∈ lw_all := lw_g (lw_at lw_m11 94 rfl) rfl
theorem q2632 : (Jvm.Cond.methodLink "GathersAllFaultsModel" (395 : Nat) ({ cls := "GathersAllFaultsModel", name := "forgets", desc := "()V" } : Jvm.MethodName)) ∈ lw_all := lw_g (lw_at lw_m11 95 rfl) rfl
theorem q2633 : (Jvm.Cond.privateMethod ({ cls := "GathersAllFaultsModel", name := "forgets", desc := "()V" } : Jvm.MethodName)) ∈ lw_tbl := lw_at lw_m11 96 rfl
theorem q2634 : (Jvm.Cond.instanceMethod ({ cls := "GathersAllFaultsModel", name := "forgets", desc := "()V" } : Jvm.MethodName)) ∈ lw_all := lw_g (lw_at lw_m11 97 rfl) rfl
theorem q2635 : (Jvm.Cond.code ({ cls := "GathersAllFaultsModel", name := "forgets", desc := "()V" } : Jvm.MethodName) prog_25_method_72_code (1 : Nat) (Option.none : Option Jvm.ClassFile.FieldType)) ∈ lw_all := lw_g (lw_at lw_m11 98 rfl) rfl
theorem q2637 : (Jvm.Cond.instanceMethod ({ cls := "GathersAllFaultsModel", name := "mend", desc := "(I)I" } : Jvm.MethodName)) ∈ lw_all := lw_g (lw_at lw_m11 100 rfl) rfl
theorem q2638 : (Jvm.Cond.selects "GathersAllFaultsModel" ({ cls := "GathersAllFaultsModel", name := "mend", desc := "(I)I" } : Jvm.MethodName) ({ cls := "GathersAllFaultsModel", name := "mend", desc := "(I)I" } : Jvm.MethodName)) ∈ lw_all := lw_g (lw_at lw_m11 101 rfl) rfl
theorem q2639 : (Jvm.Cond.code ({ cls := "GathersAllFaultsModel", name := "mend", desc := "(I)I" } : Jvm.MethodName) prog_25_method_96_code (7 : Nat) (Option.some Jvm.ClassFile.FieldType.int)) ∈ lw_all := lw_g (lw_at lw_m11 102 rfl) rfl
theorem q2640 : (Jvm.Cond.methodLink "GathersAllFaultsModel" (398 : Nat) ({ cls := "GathersAllFaultsModel", name := "faultsWith", desc := "(II)I" } : Jvm.MethodName)) ∈ lw_all := lw_g (lw_at lw_m11 103 rfl) rfl
theorem q2641 : (Jvm.Cond.privateMethod ({ cls := "GathersAllFaultsModel", name := "faultsWith", desc := "(II)I" } : Jvm.MethodName)) ∈ lw_tbl := lw_at lw_m11 104 rfl
theorem q2642 : (Jvm.Cond.instanceMethod ({ cls := "GathersAllFaultsModel", name := "faultsWith", desc := "(II)I" } : Jvm.MethodName)) ∈ lw_all := lw_g (lw_at lw_m11 105 rfl) rfl
theorem q2643 : (Jvm.Cond.code ({ cls := "GathersAllFaultsModel", name := "faultsWith", desc := "(II)I" } : Jvm.MethodName) prog_25_method_95_code (4 : Nat) (Option.some Jvm.ClassFile.FieldType.int)) ∈ lw_all := lw_g (lw_at lw_m11 106 rfl) rfl
theorem q2645 : (Jvm.Cond.instanceMethod ({ cls := "GathersAllFaultsModel", name := "range", desc := "(II)I" } : Jvm.MethodName)) ∈ lw_all := lw_g (lw_at lw_m11 108 rfl) rfl
theorem q2646 : (Jvm.Cond.selects "GathersAllFaultsModel" ({ cls := "GathersAllFaultsModel", name := "range", desc := "(II)I" } : Jvm.MethodName) ({ cls := "GathersAllFaultsModel", name := "range", desc := "(II)I" } : Jvm.MethodName)) ∈ lw_all := lw_g (lw_at lw_m11 109 rfl) rfl
theorem q2647 : (Jvm.Cond.code ({ cls := "GathersAllFaultsModel", name := "range", desc := "(II)I" } : Jvm.MethodName) prog_25_method_97_code (8 : Nat) (Option.some Jvm.ClassFile.FieldType.int)) ∈ lw_all := lw_g (lw_at lw_m11 110 rfl) rfl
theorem q2649 : (Jvm.Cond.instanceMethod ({ cls := "GathersAllFaultsModel", name := "loss", desc := "(II)J" } : Jvm.MethodName)) ∈ lw_all := lw_g (lw_at lw_m11 112 rfl) rfl
theorem q2650 : (Jvm.Cond.selects "GathersAllFaultsModel" ({ cls := "GathersAllFaultsModel", name := "loss", desc := "(II)J" } : Jvm.MethodName) ({ cls := "GathersAllFaultsModel", name := "loss", desc := "(II)J" } : Jvm.MethodName)) ∈ lw_all := lw_g (lw_at lw_m11 113 rfl) rfl
theorem q2651 : (Jvm.Cond.code ({ cls := "GathersAllFaultsModel", name := "loss", desc := "(II)J" } : Jvm.MethodName) prog_25_method_102_code (13 : Nat) (Option.some Jvm.ClassFile.FieldType.long)) ∈ lw_all := lw_g (lw_at lw_m11 114 rfl) rfl
theorem q2652 : (Jvm.Cond.methodLink "GathersAllFaultsModel" (405 : Nat) ({ cls := "GathersAllFaultsModel", name := "lowestOf", desc := "(I)J" } : Jvm.MethodName)) ∈ lw_all := lw_g (lw_at lw_m11 115 rfl) rfl
theorem q2653 : (Jvm.Cond.privateMethod ({ cls := "GathersAllFaultsModel", name := "lowestOf", desc := "(I)J" } : Jvm.MethodName)) ∈ lw_tbl := lw_at lw_m11 116 rfl
theorem q2654 : (Jvm.Cond.instanceMethod ({ cls := "GathersAllFaultsModel", name := "lowestOf", desc := "(I)J" } : Jvm.MethodName)) ∈ lw_all := lw_g (lw_at lw_m11 117 rfl) rfl
theorem q2655 : (Jvm.Cond.code ({ cls := "GathersAllFaultsModel", name := "lowestOf", desc := "(I)J" } : Jvm.MethodName) prog_25_method_3_code (2 : Nat) (Option.some Jvm.ClassFile.FieldType.long)) ∈ lw_all := lw_g (lw_at lw_m11 118 rfl) rfl
theorem q2656 : (Jvm.Cond.constantLong "GathersAllFaultsModel" (128 : Nat) (4000000000000000000 : Int64)) ∈ lw_all := lw_g (lw_at lw_m11 119 rfl) rfl
theorem q2657 : (Jvm.Cond.methodLink "GathersAllFaultsModel" (409 : Nat) ({ cls := "GathersAllFaultsModel", name := "numbersUpTo", desc := "(I)I" } : Jvm.MethodName)) ∈ lw_all := lw_g (lw_at lw_m11 120 rfl) rfl
theorem q2658 : (Jvm.Cond.privateMethod ({ cls := "GathersAllFaultsModel", name := "numbersUpTo", desc := "(I)I" } : Jvm.MethodName)) ∈ lw_tbl := lw_at lw_m11 121 rfl
theorem q2659 : (Jvm.Cond.instanceMethod ({ cls := "GathersAllFaultsModel", name := "numbersUpTo", desc := "(I)I" } : Jvm.MethodName)) ∈ lw_all := lw_g (lw_at lw_m11 122 rfl) rfl
theorem q2660 : (Jvm.Cond.code ({ cls := "GathersAllFaultsModel", name := "numbersUpTo", desc := "(I)I" } : Jvm.MethodName) prog_25_method_100_code (4 : Nat) (Option.some Jvm.ClassFile.FieldType.int)) ∈ lw_all := lw_g (lw_at lw_m11 123 rfl) rfl
theorem q2661 : (Jvm.Cond.methodLink "GathersAllFaultsModel" (412 : Nat) ({ cls := "GathersAllFaultsModel", name := "losesSome", desc := "(I)V" } : Jvm.MethodName)) ∈ lw_all := lw_g (lw_at lw_m11 124 rfl) rfl
theorem q2662 : (Jvm.Cond.privateMethod ({ cls := "GathersAllFaultsModel", name := "losesSome", desc := "(I)V" } : Jvm.MethodName)) ∈ lw_tbl := lw_at lw_m11 125 rfl
theorem q2663 : (Jvm.Cond.instanceMethod ({ cls := "GathersAllFaultsModel", name := "losesSome", desc := "(I)V" } : Jvm.MethodName)) ∈ lw_all := lw_g (lw_at lw_m11 126 rfl) rfl
theorem q2664 : (Jvm.Cond.code ({ cls := "GathersAllFaultsModel", name := "losesSome", desc := "(I)V" } : Jvm.MethodName) prog_25_method_101_code (4 : Nat) (Option.none : Option Jvm.ClassFile.FieldType)) ∈ lw_all := lw_g (lw_at lw_m11 127 rfl) rfl
theorem q2665 : (Jvm.Cond.methodLink "GathersAllFaultsModel" (415 : Nat) ({ cls := "GathersAllFaultsModel", name := "partOf", desc := "(JJI)J" } : Jvm.MethodName)) ∈ lw_all := lw_g (lw_at lw_m11 128 rfl) rfl
theorem q2666 : (Jvm.Cond.static ({ cls := "GathersAllFaultsModel", name := "partOf", desc := "(JJI)J" } : Jvm.MethodName)) ∈ lw_all := lw_g (lw_at lw_m11 129 rfl) rfl
theorem q2667 : (Jvm.Cond.code ({ cls := "GathersAllFaultsModel", name := "partOf", desc := "(JJI)J" } : Jvm.MethodName) prog_25_method_99_code (5 : Nat) (Option.some Jvm.ClassFile.FieldType.long)) ∈ lw_all := lw_g (lw_at lw_m11 130 rfl) rfl
theorem q2668 : (Jvm.Cond.methodLink "GathersAllFaultsModel" (401 : Nat) ({ cls := "GathersAllFaultsModel", name := "divisor", desc := "(JJ)J" } : Jvm.MethodName)) ∈ lw_all := lw_g (lw_at lw_m11 131 rfl) rfl
theorem q2669 : (Jvm.Cond.static ({ cls := "GathersAllFaultsModel", name := "divisor", desc := "(JJ)J" } : Jvm.MethodName)) ∈ lw_all := lw_g (lw_at lw_m11 132 rfl) rfl
theorem q2670 : (Jvm.Cond.code ({ cls := "GathersAllFaultsModel", name := "divisor", desc := "(JJ)J" } : Jvm.MethodName) prog_25_method_98_code (10 : Nat) (Option.some Jvm.ClassFile.FieldType.long)) ∈ lw_all := lw_g (lw_at lw_m11 133 rfl) rfl
theorem q2672 : (Jvm.Cond.instanceMethod ({ cls := "GathersAllFaultsModel", name := "mean", desc := "(I)J" } : Jvm.MethodName)) ∈ lw_all := lw_g (lw_at lw_m11 135 rfl) rfl
theorem q2673 : (Jvm.Cond.selects "GathersAllFaultsModel" ({ cls := "GathersAllFaultsModel", name := "mean", desc := "(I)J" } : Jvm.MethodName) ({ cls := "GathersAllFaultsModel", name := "mean", desc := "(I)J" } : Jvm.MethodName)) ∈ lw_all := lw_g (lw_at lw_m11 136 rfl) rfl
theorem q2674 : (Jvm.Cond.code ({ cls := "GathersAllFaultsModel", name := "mean", desc := "(I)J" } : Jvm.MethodName) prog_25_method_103_code (2 : Nat) (Option.some Jvm.ClassFile.FieldType.long)) ∈ lw_all := lw_g (lw_at lw_m11 137 rfl) rfl
theorem q2676 : (Jvm.Cond.instanceMethod ({ cls := "GathersAllFaultsModel", name := "which", desc := "(I)I" } : Jvm.MethodName)) ∈ lw_all := lw_g (lw_at lw_m11 139 rfl) rfl
theorem q2677 : (Jvm.Cond.selects "GathersAllFaultsModel" ({ cls := "GathersAllFaultsModel", name := "which", desc := "(I)I" } : Jvm.MethodName) ({ cls := "GathersAllFaultsModel", name := "which", desc := "(I)I" } : Jvm.MethodName)) ∈ lw_all := lw_g (lw_at lw_m11 140 rfl) rfl
theorem q2678 : (Jvm.Cond.code ({ cls := "GathersAllFaultsModel", name := "which", desc := "(I)I" } : Jvm.MethodName) prog_25_method_105_code (5 : Nat) (Option.some Jvm.ClassFile.FieldType.int)) ∈ lw_all := lw_g (lw_at lw_m11 141 rfl) rfl
theorem q2679 : (Jvm.Cond.methodLink "GathersAllFaultsModel" (422 : Nat) ({ cls := "GathersAllFaultsModel", name := "isCodedSo", desc := "()Z" } : Jvm.MethodName)) ∈ lw_all := lw_g (lw_at lw_m11 142 rfl) rfl
theorem q2680 : (Jvm.Cond.privateMethod ({ cls := "GathersAllFaultsModel", name := "isCodedSo", desc := "()Z" } : Jvm.MethodName)) ∈ lw_tbl := lw_at lw_m11 143 rfl
theorem q2681 : (Jvm.Cond.instanceMethod ({ cls := "GathersAllFaultsModel", name := "isCodedSo", desc := "()Z" } : Jvm.MethodName)) ∈ lw_all := lw_g (lw_at lw_m11 144 rfl) rfl
theorem q2682 : (Jvm.Cond.code ({ cls := "GathersAllFaultsModel", name := "isCodedSo", desc := "()Z" } : Jvm.MethodName) prog_25_method_104_code (2 : Nat) (Option.some Jvm.ClassFile.FieldType.boolean)) ∈ lw_all := lw_g (lw_at lw_m11 145 rfl) rfl
theorem q2684 : (Jvm.Cond.instanceMethod ({ cls := "GathersAllFaultsModel", name := "row", desc := "(I)I" } : Jvm.MethodName)) ∈ lw_all := lw_g (lw_at lw_m11 147 rfl) rfl
theorem q2685 : (Jvm.Cond.selects "GathersAllFaultsModel" ({ cls := "GathersAllFaultsModel", name := "row", desc := "(I)I" } : Jvm.MethodName) ({ cls := "GathersAllFaultsModel", name := "row", desc := "(I)I" } : Jvm.MethodName)) ∈ lw_all := lw_g (lw_at lw_m11 148 rfl) rfl
theorem q2686 : (Jvm.Cond.code ({ cls := "GathersAllFaultsModel", name := "row", desc := "(I)I" } : Jvm.MethodName) prog_25_method_106_code (3 : Nat) (Option.some Jvm.ClassFile.FieldType.int)) ∈ lw_all := lw_g (lw_at lw_m11 149 rfl) rfl
theorem q2688 : (Jvm.Cond.instanceMethod ({ cls := "GathersAllFaultsModel", name := "judge", desc := "()I" } : Jvm.MethodName)) ∈ lw_all := lw_g (lw_at lw_m11 151 rfl) rfl
theorem q2689 : (Jvm.Cond.selects "GathersAllFaultsModel" ({ cls := "GathersAllFaultsModel", name := "judge", desc := "()I" } : Jvm.MethodName) ({ cls := "GathersAllFaultsModel", name := "judge", desc := "()I" } : Jvm.MethodName)) ∈ lw_all := lw_g (lw_at lw_m11 152 rfl) rfl
theorem q2690 : (Jvm.Cond.code ({ cls := "GathersAllFaultsModel", name := "judge", desc := "()I" } : Jvm.MethodName) prog_25_method_107_code (3 : Nat) (Option.some Jvm.ClassFile.FieldType.int)) ∈ lw_all := lw_g (lw_at lw_m11 153 rfl) rfl
theorem q2692 : (Jvm.Cond.instanceMethod ({ cls := "GathersAllFaultsModel", name := "clear", desc := "()I" } : Jvm.MethodName)) ∈ lw_all := lw_g (lw_at lw_m11 155 rfl) rfl
theorem q2693 : (Jvm.Cond.selects "GathersAllFaultsModel" ({ cls := "GathersAllFaultsModel", name := "clear", desc := "()I" } : Jvm.MethodName) ({ cls := "GathersAllFaultsModel", name := "clear", desc := "()I" } : Jvm.MethodName)) ∈ lw_all := lw_g (lw_at lw_m11 156 rfl) rfl
theorem q2694 : (Jvm.Cond.code ({ cls := "GathersAllFaultsModel", name := "clear", desc := "()I" } : Jvm.MethodName) prog_25_method_108_code (2 : Nat) (Option.some Jvm.ClassFile.FieldType.int)) ∈ lw_all := lw_g (lw_at lw_m11 157 rfl) rfl
theorem q2696 : (Jvm.Cond.instanceMethod ({ cls := "GathersAllFaultsModel", name := "lots", desc := "(III)I" } : Jvm.MethodName)) ∈ lw_all := lw_g (lw_at lw_m11 159 rfl) rfl
theorem q2697 : (Jvm.Cond.selects "GathersAllFaultsModel" ({ cls := "GathersAllFaultsModel", name := "lots", desc := "(III)I" } : Jvm.MethodName) ({ cls := "GathersAllFaultsModel", name := "lots", desc := "(III)I" } : Jvm.MethodName)) ∈ lw_all := lw_g (lw_at lw_m11 160 rfl) rfl
theorem q2698 : (Jvm.Cond.code ({ cls := "GathersAllFaultsModel", name := "lots", desc := "(III)I" } : Jvm.MethodName) prog_25_method_111_code (8 : Nat) (Option.some Jvm.ClassFile.FieldType.int)) ∈ lw_all := lw_g (lw_at lw_m11 161 rfl) rfl
theorem q2699 : (Jvm.Cond.methodLink "GathersAllFaultsModel" (434 : Nat) ({ cls := "GathersAllFaultsModel", name := "changesByLot", desc := "()V" } : Jvm.MethodName)) ∈ lw_all := lw_g (lw_at lw_m11 162 rfl) rfl
theorem q2700 : (Jvm.Cond.privateMethod ({ cls := "GathersAllFaultsModel", name := "changesByLot", desc := "()V" } : Jvm.MethodName)) ∈ lw_tbl := lw_at lw_m11 163 rfl
theorem q2701 : (Jvm.Cond.instanceMethod ({ cls := "GathersAllFaultsModel", name := "changesByLot", desc := "()V" } : Jvm.MethodName)) ∈ lw_all := lw_g (lw_at lw_m11 164 rfl) rfl
theorem q2702 : (Jvm.Cond.code ({ cls := "GathersAllFaultsModel", name := "changesByLot", desc := "()V" } : Jvm.MethodName) prog_25_method_110_code (2 : Nat) (Option.none : Option Jvm.ClassFile.FieldType)) ∈ lw_all := lw_g (lw_at lw_m11 165 rfl) rfl
theorem q2703 : (Jvm.Cond.methodLink "GathersAllFaultsModel" (431 : Nat) ({ cls := "GathersAllFaultsModel", name := "draw", desc := "(I)I" } : Jvm.MethodName)) ∈ lw_all := lw_g (lw_at lw_m11 166 rfl) rfl
theorem q2704 : (Jvm.Cond.privateMethod ({ cls := "GathersAllFaultsModel", name := "draw", desc := "(I)I" } : Jvm.MethodName)) ∈ lw_tbl := lw_at lw_m11 167 rfl
theorem q2705 : (Jvm.Cond.instanceMethod ({ cls := "GathersAllFaultsModel", name := "draw", desc := "(I)I" } : Jvm.MethodName)) ∈ lw_all := lw_g (lw_at lw_m11 168 rfl) rfl
theorem q2706 : (Jvm.Cond.code ({ cls := "GathersAllFaultsModel", name := "draw", desc := "(I)I" } : Jvm.MethodName) prog_25_method_109_code (2 : Nat) (Option.some Jvm.ClassFile.FieldType.int)) ∈ lw_all := lw_g (lw_at lw_m11 169 rfl) rfl
theorem q2707 : (Jvm.Cond.constant "GathersAllFaultsModel" (428 : Nat) (1664525 : Int32)) ∈ lw_all := lw_g (lw_at lw_m11 170 rfl) rfl
theorem q2708 : (Jvm.Cond.constant "GathersAllFaultsModel" (429 : Nat) (1013904223 : Int32)) ∈ lw_all := lw_g (lw_at lw_m11 171 rfl) rfl
theorem q2709 : (Jvm.Cond.constant "GathersAllFaultsModel" (430 : Nat) (2147483647 : Int32)) ∈ lw_all := lw_g (lw_at lw_m11 172 rfl) rfl
theorem q2711 : (Jvm.Cond.instanceMethod ({ cls := "GathersAllFaultsModel", name := "count", desc := "(I)I" } : Jvm.MethodName)) ∈ lw_all := lw_g (lw_at lw_m11 174 rfl) rfl
theorem q2712 : (Jvm.Cond.selects "GathersAllFaultsModel" ({ cls := "GathersAllFaultsModel", name := "count", desc := "(I)I" } : Jvm.MethodName) ({ cls := "GathersAllFaultsModel", name := "count", desc := "(I)I" } : Jvm.MethodName)) ∈ lw_all := lw_g (lw_at lw_m11 175 rfl) rfl
theorem q2713 : (Jvm.Cond.code ({ cls := "GathersAllFaultsModel", name := "count", desc := "(I)I" } : Jvm.MethodName) prog_25_method_113_code (2 : Nat) (Option.some Jvm.ClassFile.FieldType.int)) ∈ lw_all := lw_g (lw_at lw_m11 176 rfl) rfl
theorem q2714 : (Jvm.Cond.methodLink "GathersAllFaultsModel" (437 : Nat) ({ cls := "GathersAllFaultsModel", name := "greatestPath", desc := "()I" } : Jvm.MethodName)) ∈ lw_all := lw_g (lw_at lw_m11 177 rfl) rfl
theorem q2715 : (Jvm.Cond.privateMethod ({ cls := "GathersAllFaultsModel", name := "greatestPath", desc := "()I" } : Jvm.MethodName)) ∈ lw_tbl := lw_at lw_m11 178 rfl
theorem q2716 : (Jvm.Cond.instanceMethod ({ cls := "GathersAllFaultsModel", name := "greatestPath", desc := "()I" } : Jvm.MethodName)) ∈ lw_all := lw_g (lw_at lw_m11 179 rfl) rfl
theorem q2717 : (Jvm.Cond.code ({ cls := "GathersAllFaultsModel", name := "greatestPath", desc := "()I" } : Jvm.MethodName) prog_25_method_112_code (3 : Nat) (Option.some Jvm.ClassFile.FieldType.int)) ∈ lw_all := lw_g (lw_at lw_m11 180 rfl) rfl
theorem q2718 : (Jvm.Cond.methodLink "GathersAllFaultsModel" (440 : Nat) ({ cls := "GathersAllFaultsModel", name := "waits", desc := "()I" } : Jvm.MethodName)) ∈ lw_all := lw_g (lw_at lw_m11 181 rfl) rfl
theorem q2744 : (Jvm.Cond.castable "GathersAllFaultsModel" "java/lang/Object") ∈ lw_tbl := lw_at lw_m11 207 rfl
theorem in_X6 : ∀ w ∈ wsX60, w ∈ lw_all := lw_in wsX60 [2175, 2177, 2179, 2181, 2183, 2185, 2187, 2189, 2191, 2193, 2195, 2197, 2199, 2201, 2203, 2205, 2207, 2209, 2211, 2213, 2215, 2217, 2219, 2221, 2223, 2225, 2227, 2229, 2231, 2233, 2235, 2237, 2239, 2241, 2243, 2245, 2247, 2249, 2251, 2253, 2255, 2257, 2259, 2261, 2263, 2265, 2267, 2269, 2271, 2273, 2275, 2277, 2279, 2281] (by decide +kernel) (by decide +kernel)
