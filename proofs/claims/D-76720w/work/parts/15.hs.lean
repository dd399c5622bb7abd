/-! THE COMPONENT'S TABLES: classes, fields by number, tags of arrays and lambdas (printed by tools/tabs.py) -/
set_option maxRecDepth 100000
def TN0 : u_T := fun _ => ("", "", "", false)
def TX8r : u_T := fun _ => ("GathersAllFaults$Refused", "number", "I", true)
theorem in_X8r : ∀ w ∈ u_ws RX8 TX8r 1, w ∈ lw_all := lw_in (u_ws RX8 TX8r 1) [404] (by decide +kernel) (by decide +kernel)
theorem nmX8r : ∀ a, a < 1 → ∀ b, b < 1 → a ≠ b → (TX8r a).2.1 ≠ (TX8r b).2.1 := by decide +kernel
def tyX8r : Nat → FieldType := fun _ => .int
theorem tyX8r_ok : ∀ k, k < 1 → parseFieldDescriptor (TX8r k).2.2.1 = some (tyX8r k) := by decide +kernel
def TX10r : u_T := fun _ => ("GathersAllFaults$Fault", "told", "I", true)
theorem in_X10r : ∀ w ∈ u_ws RX10 TX10r 1, w ∈ lw_all := lw_in (u_ws RX10 TX10r 1) [490] (by decide +kernel) (by decide +kernel)
theorem nmX10r : ∀ a, a < 1 → ∀ b, b < 1 → a ≠ b → (TX10r a).2.1 ≠ (TX10r b).2.1 := by decide +kernel
def tyX10r : Nat → FieldType := fun _ => .int
theorem tyX10r_ok : ∀ k, k < 1 → parseFieldDescriptor (TX10r k).2.2.1 = some (tyX10r k) := by decide +kernel
theorem in_N0 : ∀ w ∈ u_ws RX5 TN0 0, w ∈ lw_all := fun w h => by simp [u_ws] at h
abbrev vwCl : List vw_C := [(RX0, TX0, 17), (RX2, TX2, 1), (RX5, TN0, 0), (RX11, TX11, 2), (RX12, TX12, 1), (RX19, TX19, 2), (RX18, TX18, 2), (RX13, TX13, 2), (RX17, TX17, 3), (RX4, TX4, 4), (RX3, TX3, 3), (RX14, TX14, 4), (RX15, TX15, 3), (RX16, TX16, 4), (RX9, TX9, 7), (RX8, TX8r, 1), (RX10, TX10r, 1), (RX20, TX20, 2), (RJ5, TJ5, 8), (RJ6, TJ6, 12), (RJ9, TJ9, 4), (RJ10, TJ10, 6), (RJ14, TJ14, 2), (RJ19, TJ19, 5), (RJ23, TJ23, 1), (RX6, TX6, 54)]
def cF : Nat → List Nat
  | 0 => [0, 1, 2, 3, 4, 5, 6, 7, 8, 9, 10, 11, 12, 13, 14, 15, 16]
  | 1 => [17]
  | 2 => []
  | 3 => [18, 19]
  | 4 => [20]
  | 5 => [21, 22]
  | 6 => [23, 24]
  | 7 => [25, 26]
  | 8 => [27, 28, 29]
  | 9 => [30, 31, 32, 33]
  | 10 => [34, 35, 36]
  | 11 => [37, 38, 39, 40]
  | 12 => [41, 42, 43]
  | 13 => [44, 45, 46, 47]
  | 14 => [48, 49, 50, 51, 52, 53, 54]
  | 15 => [55]
  | 16 => [56]
  | 17 => [57, 58]
  | 18 => [59, 60, 61, 62, 63, 64, 65, 66]
  | 19 => [59, 60, 61, 62, 63, 64, 65, 66, 67, 68, 69, 70]
  | 20 => [71, 72, 73, 74]
  | 21 => [71, 72, 73, 74, 75, 76]
  | 22 => [77, 78]
  | 23 => [79, 80, 81, 82, 83]
  | 24 => [84]
  | 25 => [99, 100, 101, 102, 103, 104, 105, 106, 107, 108, 109, 110, 111, 112, 113, 114, 115, 116, 117, 118, 119, 120, 121, 122, 123, 124, 125, 126, 127, 128, 129, 130, 131, 132, 133, 134, 135, 136, 137, 138, 139, 140, 141, 142, 143, 144, 145, 146, 147, 148, 149, 150, 151, 152]
  | _ => []
def fK (f : Nat) : Nat := if f ∈ [0, 1, 2, 3, 5, 7, 9, 10, 11, 14, 15, 16, 18, 19, 20, 22, 23, 27, 28, 30, 32, 34, 36, 37, 39, 43, 44, 54, 59, 60, 61, 62, 67, 68, 72, 73, 74, 75, 76, 78, 79, 80, 83, 84, 88, 90, 93, 94, 95, 96, 97, 99, 100, 101, 102, 103, 104, 106, 107, 108, 109, 110, 111, 112, 113, 114, 115, 116, 117, 118, 123, 124, 125, 126, 127, 128, 129, 130, 131, 135, 136, 137, 138, 139, 140, 146, 150] then 1 else if f = 66 then 2 else 0
def lF : Nat → List Nat
  | 2 => [86, 87]
  | 3 => [88, 89]
  | 6 => [90]
  | 7 => [91, 92, 93]
  | 8 => [94]
  | 9 => [95, 96]
  | 10 => [97]
  | _ => []
/-- fields by number: 0 GathersAllFaults.value0, 1 GathersAllFaults.check0, 2 GathersAllFaults.imagedValue, 3 GathersAllFaults.imagedCheck, 4 GathersAllFaults.hasImage, 5 GathersAllFaults.row, 6 GathersAllFaults.rowMany, 7 GathersAllFaults.letters, 8 GathersAllFaults.letterMany, 9 GathersAllFaults.refused, 10 GathersAllFaults.changing, 11 GathersAllFaults.nothing, 12 GathersAllFaults.lot, 13 GathersAllFaults.skip, 14 GathersAllFaults.hurtPaths, 15 GathersAllFaults.hurtWas, 16 GathersAllFaults.hurtTo, 17 GathersAllFaults$Num.n, 18 GathersAllFaults$Rec.fields, 19 GathersAllFaults$Rec.steps, 20 GathersAllFaults$Lst.elements, 21 GathersAllFaults$Part.path, 22 GathersAllFaults$Part.value, 23 GathersAllFaults$Row.all, 24 GathersAllFaults$Row.many, 25 GathersAllFaults$Found.path, 26 GathersAllFaults$Found.code, 27 GathersAllFaults$Finding.sink, 28 GathersAllFaults$Finding.row, 29 GathersAllFaults$Finding.waiting, 30 GathersAllFaults$Sink.findings, 31 GathersAllFaults$Sink.findingMany, 32 GathersAllFaults$Sink.founds, 33 GathersAllFaults$Sink.foundMany, 34 GathersAllFaults$Compiled.look, 35 GathersAllFaults$Compiled.checks, 36 GathersAllFaults$Compiled.sink, 37 GathersAllFaults$Spec.all, 38 GathersAllFaults$Spec.fields, 39 GathersAllFaults$Spec.hung, 40 GathersAllFaults$Spec.hanging, 41 GathersAllFaults$Field.step, 42 GathersAllFaults$Field.mayLack, 43 GathersAllFaults$Field.look, 44 GathersAllFaults$Hanging.both, 45 GathersAllFaults$Hanging.code, 46 GathersAllFaults$Hanging.one, 47 GathersAllFaults$Hanging.other, 48 GathersAllFaults$Reader.size, 49 GathersAllFaults$Reader.at, 50 GathersAllFaults$Reader.parts, 51 GathersAllFaults$Reader.checks, 52 GathersAllFaults$Reader.agains, 53 GathersAllFaults$Reader.wrongAt, 54 GathersAllFaults$Reader.this$0, 55 GathersAllFaults$Refused.number, 56 GathersAllFaults$Fault.told, 57 GathersAllFaults$Tally.many, 58 GathersAllFaults$Tally.path, 59 AbstractMap.keySet, 60 AbstractMap.values, 61 HashMap.table, 62 HashMap.entrySet, 63 HashMap.size, 64 HashMap.modCount, 65 HashMap.threshold, 66 HashMap.loadFactor, 67 LinkedHashMap.head, 68 LinkedHashMap.tail, 69 LinkedHashMap.accessOrder, 70 LinkedHashMap.putMode, 71 HashMap$Node.hash, 72 HashMap$Node.key, 73 HashMap$Node.value, 74 HashMap$Node.next, 75 LinkedHashMap$Entry.before, 76 LinkedHashMap$Entry.after, 77 LinkedHashMap$LinkedKeySet.reversed, 78 LinkedHashMap$LinkedKeySet.this$0, 79 LinkedHashMap$LinkedHashIterator.next, 80 LinkedHashMap$LinkedHashIterator.current, 81 LinkedHashMap$LinkedHashIterator.expectedModCount, 82 LinkedHashMap$LinkedHashIterator.reversed, 83 LinkedHashMap$LinkedHashIterator.this$0, 84 HashSet.map, 85 Integer.value, 86 lam2.0, 87 lam2.1, 88 lam3.0, 89 lam3.1, 90 lam6.0, 91 lam7.0, 92 lam7.1, 93 lam7.2, 94 lam8.0, 95 lam9.0, 96 lam9.1, 97 lam10.0, 99 GathersAllFaultsModel.refused, 100 GathersAllFaultsModel.sort, 101 GathersAllFaultsModel.number, 102 GathersAllFaultsModel.name, 103 GathersAllFaultsModel.size, 104 GathersAllFaultsModel.path, 105 GathersAllFaultsModel.parts, 106 GathersAllFaultsModel.kindOf, 107 GathersAllFaultsModel.lowOf, 108 GathersAllFaultsModel.highOf, 109 GathersAllFaultsModel.firstOf, 110 GathersAllFaultsModel.secondOf, 111 GathersAllFaultsModel.fieldOwner, 112 GathersAllFaultsModel.fieldName, 113 GathersAllFaultsModel.fieldMay, 114 GathersAllFaultsModel.fieldCheck, 115 GathersAllFaultsModel.waiterOwner, 116 GathersAllFaultsModel.waiterKind, 117 GathersAllFaultsModel.waiterOne, 118 GathersAllFaultsModel.waiterOther, 119 GathersAllFaultsModel.checks, 120 GathersAllFaultsModel.fields, 121 GathersAllFaultsModel.waiters, 122 GathersAllFaultsModel.wholes, 123 GathersAllFaultsModel.faultPath, 124 GathersAllFaultsModel.faultCode, 125 GathersAllFaultsModel.lookCheck, 126 GathersAllFaultsModel.lookPart, 127 GathersAllFaultsModel.lookPhase, 128 GathersAllFaultsModel.lookMark, 129 GathersAllFaultsModel.lookWaits, 130 GathersAllFaultsModel.lookEnd, 131 GathersAllFaultsModel.lookEndWaits, 132 GathersAllFaultsModel.found, 133 GathersAllFaultsModel.waiting, 134 GathersAllFaultsModel.deep, 135 GathersAllFaultsModel.tape, 136 GathersAllFaultsModel.openAt, 137 GathersAllFaultsModel.openSort, 138 GathersAllFaultsModel.openNames, 139 GathersAllFaultsModel.openMany, 140 GathersAllFaultsModel.openInside, 141 GathersAllFaultsModel.taped, 142 GathersAllFaultsModel.reading, 143 GathersAllFaultsModel.badAt, 144 GathersAllFaultsModel.open, 145 GathersAllFaultsModel.nameTold, 146 GathersAllFaultsModel.kept, 147 GathersAllFaultsModel.hasImage, 148 GathersAllFaultsModel.isKeeping, 149 GathersAllFaultsModel.cursor, 150 GathersAllFaultsModel.row, 151 GathersAllFaultsModel.rowMany, 152 GathersAllFaultsModel.lots -/
def fINT : Nat := 85
def tyA (t : Nat) : FieldType := if t = 101 then .int else if t = 102 then .byte else if t = 103 then .char else if t = 111 then .object "java/lang/Object" else if t = 112 then .object "GathersAllFaults$Finding" else if t = 113 then .object "GathersAllFaults$Found" else if t = 114 then .object "GathersAllFaults$Value" else if t = 115 then .object "GathersAllFaults$Num" else if t = 116 then .object "java/util/HashMap$Node" else if t = 117 then .object "GathersAllFaults$Field" else .object "GathersAllFaults$Hanging"
def tyT : List Nat := [101, 102, 103, 111, 112, 113, 114, 115, 116, 117, 118]
