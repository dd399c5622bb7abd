/-! the forwarders of the eleven sites, as the kernel reads them (printed by tools/lam.py) -/
abbrev fwB_1 : ByteArray := ⟨#[43, 28, 45, 184, 0, 17, 177]⟩
theorem dfw_1_0 : decode fwB_1 0 = .ok (.aload_n 1, 1) := by decide +kernel
theorem dfw_1_1 : decode fwB_1 1 = .ok (.iload_n 2, 1) := by decide +kernel
theorem dfw_1_2 : decode fwB_1 2 = .ok (.aload_n 3, 1) := by decide +kernel
theorem dfw_1_3 : decode fwB_1 3 = .ok (.invokestatic 17, 3) := by decide +kernel
theorem dfw_1_6 : decode fwB_1 6 = .ok (.return_, 1) := by decide +kernel
theorem LK_1 : LK (shpOf siteWord_1_1) "GathersAllFaults$Compiled" fwB_1 4 none [] [] 17 14 16 := ⟨⟨by decide +kernel, by decide +kernel, by decide +kernel⟩, ⟨by decide +kernel, by decide +kernel, by decide +kernel⟩, ⟨by decide +kernel, by decide +kernel, by decide +kernel⟩, by decide +kernel, by decide +kernel, by decide +kernel, by decide +kernel⟩
abbrev fwB_2 : ByteArray := ⟨#[42, 180, 0, 16, 42, 180, 0, 18, 43, 28, 45, 184, 0, 26, 177]⟩
theorem dfw_2_0 : decode fwB_2 0 = .ok (.aload_n 0, 1) := by decide +kernel
theorem dfw_2_1 : decode fwB_2 1 = .ok (.getfield 16, 3) := by decide +kernel
theorem dfw_2_4 : decode fwB_2 4 = .ok (.aload_n 0, 1) := by decide +kernel
theorem dfw_2_5 : decode fwB_2 5 = .ok (.getfield 18, 3) := by decide +kernel
theorem dfw_2_8 : decode fwB_2 8 = .ok (.aload_n 1, 1) := by decide +kernel
theorem dfw_2_9 : decode fwB_2 9 = .ok (.iload_n 2, 1) := by decide +kernel
theorem dfw_2_10 : decode fwB_2 10 = .ok (.aload_n 3, 1) := by decide +kernel
theorem dfw_2_11 : decode fwB_2 11 = .ok (.invokestatic 26, 3) := by decide +kernel
theorem dfw_2_14 : decode fwB_2 14 = .ok (.return_, 1) := by decide +kernel
theorem LK_2 : LK (shpOf siteWord_1_2) "GathersAllFaults" fwB_2 4 none [Jvm.ClassFile.FieldType.int, Jvm.ClassFile.FieldType.int] [16, 18] 26 22 25 := ⟨⟨by decide +kernel, by decide +kernel, by decide +kernel⟩, ⟨by decide +kernel, by decide +kernel, by decide +kernel⟩, ⟨by decide +kernel, by decide +kernel, by decide +kernel⟩, by decide +kernel, by decide +kernel, by decide +kernel, by decide +kernel⟩
abbrev fwB_3 : ByteArray := ⟨#[42, 180, 0, 17, 42, 180, 0, 19, 43, 28, 45, 184, 0, 27, 177]⟩
theorem dfw_3_0 : decode fwB_3 0 = .ok (.aload_n 0, 1) := by decide +kernel
theorem dfw_3_1 : decode fwB_3 1 = .ok (.getfield 17, 3) := by decide +kernel
theorem dfw_3_4 : decode fwB_3 4 = .ok (.aload_n 0, 1) := by decide +kernel
theorem dfw_3_5 : decode fwB_3 5 = .ok (.getfield 19, 3) := by decide +kernel
theorem dfw_3_8 : decode fwB_3 8 = .ok (.aload_n 1, 1) := by decide +kernel
theorem dfw_3_9 : decode fwB_3 9 = .ok (.iload_n 2, 1) := by decide +kernel
theorem dfw_3_10 : decode fwB_3 10 = .ok (.aload_n 3, 1) := by decide +kernel
theorem dfw_3_11 : decode fwB_3 11 = .ok (.invokestatic 27, 3) := by decide +kernel
theorem dfw_3_14 : decode fwB_3 14 = .ok (.return_, 1) := by decide +kernel
theorem LK_3 : LK (shpOf siteWord_1_3) "GathersAllFaults" fwB_3 4 none [(Jvm.ClassFile.FieldType.object "GathersAllFaults$Look"), Jvm.ClassFile.FieldType.boolean] [17, 19] 27 23 26 := ⟨⟨by decide +kernel, by decide +kernel, by decide +kernel⟩, ⟨by decide +kernel, by decide +kernel, by decide +kernel⟩, ⟨by decide +kernel, by decide +kernel, by decide +kernel⟩, by decide +kernel, by decide +kernel, by decide +kernel, by decide +kernel⟩
abbrev fwB_4 : ByteArray := ⟨#[43, 44, 184, 0, 17, 172]⟩
theorem dfw_4_0 : decode fwB_4 0 = .ok (.aload_n 1, 1) := by decide +kernel
theorem dfw_4_1 : decode fwB_4 1 = .ok (.aload_n 2, 1) := by decide +kernel
theorem dfw_4_2 : decode fwB_4 2 = .ok (.invokestatic 17, 3) := by decide +kernel
theorem dfw_4_5 : decode fwB_4 5 = .ok (.ireturn, 1) := by decide +kernel
theorem LK_4 : LK (shpOf siteWord_1_4) "GathersAllFaults$Reader" fwB_4 3 (some Jvm.ClassFile.FieldType.boolean) [] [] 17 14 16 := ⟨⟨by decide +kernel, by decide +kernel, by decide +kernel⟩, ⟨by decide +kernel, by decide +kernel, by decide +kernel⟩, ⟨by decide +kernel, by decide +kernel, by decide +kernel⟩, by decide +kernel, by decide +kernel, by decide +kernel, by decide +kernel⟩
abbrev fwB_5 : ByteArray := ⟨#[43, 44, 184, 0, 17, 172]⟩
theorem dfw_5_0 : decode fwB_5 0 = .ok (.aload_n 1, 1) := by decide +kernel
theorem dfw_5_1 : decode fwB_5 1 = .ok (.aload_n 2, 1) := by decide +kernel
theorem dfw_5_2 : decode fwB_5 2 = .ok (.invokestatic 17, 3) := by decide +kernel
theorem dfw_5_5 : decode fwB_5 5 = .ok (.ireturn, 1) := by decide +kernel
theorem LK_5 : LK (shpOf siteWord_1_5) "GathersAllFaults$Reader" fwB_5 3 (some Jvm.ClassFile.FieldType.boolean) [] [] 17 14 16 := ⟨⟨by decide +kernel, by decide +kernel, by decide +kernel⟩, ⟨by decide +kernel, by decide +kernel, by decide +kernel⟩, ⟨by decide +kernel, by decide +kernel, by decide +kernel⟩, by decide +kernel, by decide +kernel, by decide +kernel, by decide +kernel⟩
abbrev fwB_6 : ByteArray := ⟨#[42, 180, 0, 15, 43, 28, 45, 182, 0, 22, 177]⟩
theorem dfw_6_0 : decode fwB_6 0 = .ok (.aload_n 0, 1) := by decide +kernel
theorem dfw_6_1 : decode fwB_6 1 = .ok (.getfield 15, 3) := by decide +kernel
theorem dfw_6_4 : decode fwB_6 4 = .ok (.aload_n 1, 1) := by decide +kernel
theorem dfw_6_5 : decode fwB_6 5 = .ok (.iload_n 2, 1) := by decide +kernel
theorem dfw_6_6 : decode fwB_6 6 = .ok (.aload_n 3, 1) := by decide +kernel
theorem dfw_6_7 : decode fwB_6 7 = .ok (.invokevirtual 22, 3) := by decide +kernel
theorem dfw_6_10 : decode fwB_6 10 = .ok (.return_, 1) := by decide +kernel
theorem LK_6 : LK (shpOf siteWord_1_6) "GathersAllFaults$Spec" fwB_6 4 none [(Jvm.ClassFile.FieldType.object "GathersAllFaults$Spec")] [15] 22 19 21 := ⟨⟨by decide +kernel, by decide +kernel, by decide +kernel⟩, ⟨by decide +kernel, by decide +kernel, by decide +kernel⟩, ⟨by decide +kernel, by decide +kernel, by decide +kernel⟩, by decide +kernel, by decide +kernel, by decide +kernel, by decide +kernel⟩
abbrev fwB_7 : ByteArray := ⟨#[42, 180, 0, 18, 42, 180, 0, 20, 42, 180, 0, 22, 43, 28, 45, 184, 0, 30, 177]⟩
theorem dfw_7_0 : decode fwB_7 0 = .ok (.aload_n 0, 1) := by decide +kernel
theorem dfw_7_1 : decode fwB_7 1 = .ok (.getfield 18, 3) := by decide +kernel
theorem dfw_7_4 : decode fwB_7 4 = .ok (.aload_n 0, 1) := by decide +kernel
theorem dfw_7_5 : decode fwB_7 5 = .ok (.getfield 20, 3) := by decide +kernel
theorem dfw_7_8 : decode fwB_7 8 = .ok (.aload_n 0, 1) := by decide +kernel
theorem dfw_7_9 : decode fwB_7 9 = .ok (.getfield 22, 3) := by decide +kernel
theorem dfw_7_12 : decode fwB_7 12 = .ok (.aload_n 1, 1) := by decide +kernel
theorem dfw_7_13 : decode fwB_7 13 = .ok (.iload_n 2, 1) := by decide +kernel
theorem dfw_7_14 : decode fwB_7 14 = .ok (.aload_n 3, 1) := by decide +kernel
theorem dfw_7_15 : decode fwB_7 15 = .ok (.invokestatic 30, 3) := by decide +kernel
theorem dfw_7_18 : decode fwB_7 18 = .ok (.return_, 1) := by decide +kernel
theorem LK_7 : LK (shpOf siteWord_1_7) "GathersAllFaults" fwB_7 4 none [Jvm.ClassFile.FieldType.int, Jvm.ClassFile.FieldType.int, (Jvm.ClassFile.FieldType.object "GathersAllFaults$Look")] [18, 20, 22] 30 26 29 := ⟨⟨by decide +kernel, by decide +kernel, by decide +kernel⟩, ⟨by decide +kernel, by decide +kernel, by decide +kernel⟩, ⟨by decide +kernel, by decide +kernel, by decide +kernel⟩, by decide +kernel, by decide +kernel, by decide +kernel, by decide +kernel⟩
abbrev fwB_8 : ByteArray := ⟨#[42, 180, 0, 15, 43, 28, 45, 184, 0, 23, 177]⟩
theorem dfw_8_0 : decode fwB_8 0 = .ok (.aload_n 0, 1) := by decide +kernel
theorem dfw_8_1 : decode fwB_8 1 = .ok (.getfield 15, 3) := by decide +kernel
theorem dfw_8_4 : decode fwB_8 4 = .ok (.aload_n 1, 1) := by decide +kernel
theorem dfw_8_5 : decode fwB_8 5 = .ok (.iload_n 2, 1) := by decide +kernel
theorem dfw_8_6 : decode fwB_8 6 = .ok (.aload_n 3, 1) := by decide +kernel
theorem dfw_8_7 : decode fwB_8 7 = .ok (.invokestatic 23, 3) := by decide +kernel
theorem dfw_8_10 : decode fwB_8 10 = .ok (.return_, 1) := by decide +kernel
theorem LK_8 : LK (shpOf siteWord_1_8) "GathersAllFaults" fwB_8 4 none [(Jvm.ClassFile.FieldType.object "GathersAllFaults$Look")] [15] 23 19 22 := ⟨⟨by decide +kernel, by decide +kernel, by decide +kernel⟩, ⟨by decide +kernel, by decide +kernel, by decide +kernel⟩, ⟨by decide +kernel, by decide +kernel, by decide +kernel⟩, by decide +kernel, by decide +kernel, by decide +kernel, by decide +kernel⟩
abbrev fwB_9 : ByteArray := ⟨#[42, 180, 0, 16, 42, 180, 0, 18, 43, 28, 45, 184, 0, 26, 177]⟩
theorem dfw_9_0 : decode fwB_9 0 = .ok (.aload_n 0, 1) := by decide +kernel
theorem dfw_9_1 : decode fwB_9 1 = .ok (.getfield 16, 3) := by decide +kernel
theorem dfw_9_4 : decode fwB_9 4 = .ok (.aload_n 0, 1) := by decide +kernel
theorem dfw_9_5 : decode fwB_9 5 = .ok (.getfield 18, 3) := by decide +kernel
theorem dfw_9_8 : decode fwB_9 8 = .ok (.aload_n 1, 1) := by decide +kernel
theorem dfw_9_9 : decode fwB_9 9 = .ok (.iload_n 2, 1) := by decide +kernel
theorem dfw_9_10 : decode fwB_9 10 = .ok (.aload_n 3, 1) := by decide +kernel
theorem dfw_9_11 : decode fwB_9 11 = .ok (.invokestatic 26, 3) := by decide +kernel
theorem dfw_9_14 : decode fwB_9 14 = .ok (.return_, 1) := by decide +kernel
theorem LK_9 : LK (shpOf siteWord_1_9) "GathersAllFaults" fwB_9 4 none [(Jvm.ClassFile.FieldType.object "GathersAllFaults$Look"), (Jvm.ClassFile.FieldType.object "GathersAllFaults$Look")] [16, 18] 26 22 25 := ⟨⟨by decide +kernel, by decide +kernel, by decide +kernel⟩, ⟨by decide +kernel, by decide +kernel, by decide +kernel⟩, ⟨by decide +kernel, by decide +kernel, by decide +kernel⟩, by decide +kernel, by decide +kernel, by decide +kernel, by decide +kernel⟩
abbrev fwB_10 : ByteArray := ⟨#[42, 180, 0, 15, 43, 28, 45, 182, 0, 22, 177]⟩
theorem dfw_10_0 : decode fwB_10 0 = .ok (.aload_n 0, 1) := by decide +kernel
theorem dfw_10_1 : decode fwB_10 1 = .ok (.getfield 15, 3) := by decide +kernel
theorem dfw_10_4 : decode fwB_10 4 = .ok (.aload_n 1, 1) := by decide +kernel
theorem dfw_10_5 : decode fwB_10 5 = .ok (.iload_n 2, 1) := by decide +kernel
theorem dfw_10_6 : decode fwB_10 6 = .ok (.aload_n 3, 1) := by decide +kernel
theorem dfw_10_7 : decode fwB_10 7 = .ok (.invokevirtual 22, 3) := by decide +kernel
theorem dfw_10_10 : decode fwB_10 10 = .ok (.return_, 1) := by decide +kernel
theorem LK_10 : LK (shpOf siteWord_1_10) "GathersAllFaults$Compiled" fwB_10 4 none [(Jvm.ClassFile.FieldType.object "GathersAllFaults$Compiled")] [15] 22 19 21 := ⟨⟨by decide +kernel, by decide +kernel, by decide +kernel⟩, ⟨by decide +kernel, by decide +kernel, by decide +kernel⟩, ⟨by decide +kernel, by decide +kernel, by decide +kernel⟩, by decide +kernel, by decide +kernel, by decide +kernel, by decide +kernel⟩
abbrev fwB_11 : ByteArray := ⟨#[43, 28, 45, 184, 0, 17, 177]⟩
theorem dfw_11_0 : decode fwB_11 0 = .ok (.aload_n 1, 1) := by decide +kernel
theorem dfw_11_1 : decode fwB_11 1 = .ok (.iload_n 2, 1) := by decide +kernel
theorem dfw_11_2 : decode fwB_11 2 = .ok (.aload_n 3, 1) := by decide +kernel
theorem dfw_11_3 : decode fwB_11 3 = .ok (.invokestatic 17, 3) := by decide +kernel
theorem dfw_11_6 : decode fwB_11 6 = .ok (.return_, 1) := by decide +kernel
theorem LK_11 : LK (shpOf siteWord_1_11) "GathersAllFaults$Reader" fwB_11 4 none [] [] 17 14 16 := ⟨⟨by decide +kernel, by decide +kernel, by decide +kernel⟩, ⟨by decide +kernel, by decide +kernel, by decide +kernel⟩, ⟨by decide +kernel, by decide +kernel, by decide +kernel⟩, by decide +kernel, by decide +kernel, by decide +kernel, by decide +kernel⟩
