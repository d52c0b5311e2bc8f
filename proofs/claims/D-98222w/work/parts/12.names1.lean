/-! names, code and decode rows of the methods (out of claim/names) -/
set_option maxRecDepth 100000
/-! what may be cast to what -/
theorem jCA_Sum : ∀ ci ∈ ([7, 8, 9, 10] : List Nat), ∃ r, jclR[ci]? = some r ∧ ((jcl[ci]? = some r ∧ r.1 = "SelfSorting$Sum") ∨ Cond.castable r.1 "SelfSorting$Sum" ∈ lw_tbl) := List.forall_mem_cons.mpr ⟨⟨(RX7, TX7, 3), rfl, Or.inr q360⟩, List.forall_mem_cons.mpr ⟨⟨(RX8, TX8, 1), rfl, Or.inr q382⟩, List.forall_mem_cons.mpr ⟨⟨(RX9, TX9, 1), rfl, Or.inr q376⟩, List.forall_mem_cons.mpr ⟨⟨(RX10, TX10, 1), rfl, Or.inr q368⟩, fun _ h => (by cases h)⟩⟩⟩⟩
theorem jCA_Asked : ∀ ci ∈ ([6, 11, 12] : List Nat), ∃ r, jclR[ci]? = some r ∧ ((jcl[ci]? = some r ∧ r.1 = "SelfSorting$Asked") ∨ Cond.castable r.1 "SelfSorting$Asked" ∈ lw_tbl) := List.forall_mem_cons.mpr ⟨⟨(RX6, TX6, 1), rfl, Or.inr q994⟩, List.forall_mem_cons.mpr ⟨⟨(RX11, TX11, 3), rfl, Or.inr q986⟩, List.forall_mem_cons.mpr ⟨⟨(RX12, TX12, 2), rfl, Or.inr q975⟩, fun _ h => (by cases h)⟩⟩⟩
theorem jCA_Integer : ∀ ci ∈ ([15] : List Nat), ∃ r, jclR[ci]? = some r ∧ ((jcl[ci]? = some r ∧ r.1 = "java/lang/Integer") ∨ Cond.castable r.1 "java/lang/Integer" ∈ lw_tbl) := List.forall_mem_cons.mpr ⟨⟨(RJ14, TJ14, 1), rfl, Or.inl ⟨rfl, rfl⟩⟩, fun _ h => (by cases h)⟩
theorem jCA_Doing : ∀ ci ∈ ([13] : List Nat), ∃ r, jclR[ci]? = some r ∧ ((jcl[ci]? = some r ∧ r.1 = "SelfSorting$Doing") ∨ Cond.castable r.1 "SelfSorting$Doing" ∈ lw_tbl) := List.forall_mem_cons.mpr ⟨⟨(RX13, TX13, 5), rfl, Or.inl ⟨rfl, rfl⟩⟩, fun _ h => (by cases h)⟩
theorem jAS7 : jAS (-7) [6, 11, 12] := ⟨by decide, by decide, "SelfSorting$Asked", rfl, List.forall_mem_cons.mpr ⟨⟨(RX6, TX6, 1), rfl, Or.inr q994⟩, List.forall_mem_cons.mpr ⟨⟨(RX11, TX11, 3), rfl, Or.inr q986⟩, List.forall_mem_cons.mpr ⟨⟨(RX12, TX12, 2), rfl, Or.inr q975⟩, fun _ h => (by cases h)⟩⟩⟩⟩
theorem jAS6 : jAS (-6) [4] := ⟨by decide, by decide, "SelfSorting$Text", rfl, List.forall_mem_cons.mpr ⟨⟨(RX4, TX4, 6), rfl, Or.inl rfl⟩, fun _ h => (by cases h)⟩⟩
theorem jAS8 : jAS (-8) [6, 7, 8, 9, 10, 11, 12, 13, 15] := ⟨by decide, by decide, "java/lang/Object", rfl, List.forall_mem_cons.mpr ⟨⟨(RX6, TX6, 1), rfl, Or.inr q2043⟩, List.forall_mem_cons.mpr ⟨⟨(RX7, TX7, 3), rfl, Or.inr q2044⟩, List.forall_mem_cons.mpr ⟨⟨(RX8, TX8, 1), rfl, Or.inr q2045⟩, List.forall_mem_cons.mpr ⟨⟨(RX9, TX9, 1), rfl, Or.inr q2046⟩, List.forall_mem_cons.mpr ⟨⟨(RX10, TX10, 1), rfl, Or.inr q2047⟩, List.forall_mem_cons.mpr ⟨⟨(RX11, TX11, 3), rfl, Or.inr q2049⟩, List.forall_mem_cons.mpr ⟨⟨(RX12, TX12, 2), rfl, Or.inr q2050⟩, List.forall_mem_cons.mpr ⟨⟨(RX13, TX13, 5), rfl, Or.inr q2051⟩, List.forall_mem_cons.mpr ⟨⟨(RJ14, TJ14, 1), rfl, Or.inr q2048⟩, fun _ h => (by cases h)⟩⟩⟩⟩⟩⟩⟩⟩⟩⟩
abbrev cJ0_fill : ByteArray := prog_39_method_103_code
def yJ0_fill : MethodName := ⟨RJ0, "fill", "([II)V"⟩
def dkwJ0_fill_0 : List UInt8 := [3, 61, 42, 190, 62, 28, 29, 162, 0, 13, 42, 28, 27, 79, 132, 2, 1, 167, 255, 244, 177]
abbrev dktJ0_fill_0 : List UInt8 := dkwJ0_fill_0 ++ []
theorem dksJ0_fill_0 : cJ0_fill.data.toList.drop 0 = dktJ0_fill_0 := by decide +kernel
theorem dJ0_fill_0 : decode cJ0_fill 0 = .ok (.iconst 0, 1) := dk_3 (dk_at dksJ0_fill_0 0 rfl rfl)
theorem dJ0_fill_1 : decode cJ0_fill 1 = .ok (.istore_n 2, 1) := dk_61 (dk_at dksJ0_fill_0 1 rfl rfl)
theorem dJ0_fill_2 : decode cJ0_fill 2 = .ok (.aload_n 0, 1) := dk_42 (dk_at dksJ0_fill_0 2 rfl rfl)
theorem dJ0_fill_3 : decode cJ0_fill 3 = .ok (.arraylength, 1) := dk_190 (dk_at dksJ0_fill_0 3 rfl rfl)
theorem dJ0_fill_4 : decode cJ0_fill 4 = .ok (.istore_n 3, 1) := dk_62 (dk_at dksJ0_fill_0 4 rfl rfl)
theorem dJ0_fill_5 : decode cJ0_fill 5 = .ok (.iload_n 2, 1) := dk_28 (dk_at dksJ0_fill_0 5 rfl rfl)
theorem dJ0_fill_6 : decode cJ0_fill 6 = .ok (.iload_n 3, 1) := dk_29 (dk_at dksJ0_fill_0 6 rfl rfl)
theorem dJ0_fill_7 : decode cJ0_fill 7 = .ok (.if_icmp .ge 13, 3) := dk_162 0 13 (dk_at dksJ0_fill_0 7 rfl rfl)
theorem dJ0_fill_10 : decode cJ0_fill 10 = .ok (.aload_n 0, 1) := dk_42 (dk_at dksJ0_fill_0 10 rfl rfl)
theorem dJ0_fill_11 : decode cJ0_fill 11 = .ok (.iload_n 2, 1) := dk_28 (dk_at dksJ0_fill_0 11 rfl rfl)
theorem dJ0_fill_12 : decode cJ0_fill 12 = .ok (.iload_n 1, 1) := dk_27 (dk_at dksJ0_fill_0 12 rfl rfl)
theorem dJ0_fill_13 : decode cJ0_fill 13 = .ok (.iastore, 1) := dk_79 (dk_at dksJ0_fill_0 13 rfl rfl)
theorem dJ0_fill_14 : decode cJ0_fill 14 = .ok (.iinc 2 1, 3) := dk_132 2 1 (dk_at dksJ0_fill_0 14 rfl rfl)
theorem dJ0_fill_17 : decode cJ0_fill 17 = .ok (.goto (-12), 3) := dk_167 255 244 (dk_at dksJ0_fill_0 17 rfl rfl)
theorem dJ0_fill_20 : decode cJ0_fill 20 = .ok (.return_, 1) := dk_177 (dk_at dksJ0_fill_0 20 rfl rfl)
abbrev MJ0_fill : jjM := (yJ0_fill, cJ0_fill, 4, (Option.none : Option Jvm.ClassFile.FieldType))
theorem npJ0_fill : yJ0_fill.cls ≠ "java/lang/invoke/MethodHandle" ∧ yJ0_fill.cls ≠ "java/lang/invoke/VarHandle" ∧ (parseMethodDescriptor yJ0_fill.desc).map (fun d => d.parameters.length) = some 2 := by decide +kernel
abbrev cJ0_fill_2 : ByteArray := prog_39_method_104_code
def yJ0_fill_2 : MethodName := ⟨RJ0, "fill", "([IIII)V"⟩
def dkwJ0_fill_2_1 : List UInt8 := [167, 255, 242, 177]
abbrev dktJ0_fill_2_1 : List UInt8 := dkwJ0_fill_2_1 ++ []
def dkwJ0_fill_2_0 : List UInt8 := [42, 190, 27, 28, 184, 0, 13, 27, 54, 4, 21, 4, 28, 162, 0, 14, 42, 21, 4, 29, 79, 132, 4, 1]
abbrev dktJ0_fill_2_0 : List UInt8 := dkwJ0_fill_2_0 ++ dktJ0_fill_2_1
theorem dksJ0_fill_2_0 : cJ0_fill_2.data.toList.drop 0 = dktJ0_fill_2_0 := by decide +kernel
theorem dksJ0_fill_2_1 : cJ0_fill_2.data.toList.drop 24 = dktJ0_fill_2_1 := dk_seg dksJ0_fill_2_0 24 rfl rfl
theorem dJ0_fill_2_0 : decode cJ0_fill_2 0 = .ok (.aload_n 0, 1) := dk_42 (dk_at dksJ0_fill_2_0 0 rfl rfl)
theorem dJ0_fill_2_1 : decode cJ0_fill_2 1 = .ok (.arraylength, 1) := dk_190 (dk_at dksJ0_fill_2_0 1 rfl rfl)
theorem dJ0_fill_2_2 : decode cJ0_fill_2 2 = .ok (.iload_n 1, 1) := dk_27 (dk_at dksJ0_fill_2_0 2 rfl rfl)
theorem dJ0_fill_2_3 : decode cJ0_fill_2 3 = .ok (.iload_n 2, 1) := dk_28 (dk_at dksJ0_fill_2_0 3 rfl rfl)
theorem dJ0_fill_2_4 : decode cJ0_fill_2 4 = .ok (.invokestatic 13, 3) := dk_184 0 13 (dk_at dksJ0_fill_2_0 4 rfl rfl)
theorem dJ0_fill_2_7 : decode cJ0_fill_2 7 = .ok (.iload_n 1, 1) := dk_27 (dk_at dksJ0_fill_2_0 7 rfl rfl)
theorem dJ0_fill_2_8 : decode cJ0_fill_2 8 = .ok (.istore 4, 2) := dk_54 4 (dk_at dksJ0_fill_2_0 8 rfl rfl)
theorem dJ0_fill_2_10 : decode cJ0_fill_2 10 = .ok (.iload 4, 2) := dk_21 4 (dk_at dksJ0_fill_2_0 10 rfl rfl)
theorem dJ0_fill_2_12 : decode cJ0_fill_2 12 = .ok (.iload_n 2, 1) := dk_28 (dk_at dksJ0_fill_2_0 12 rfl rfl)
theorem dJ0_fill_2_13 : decode cJ0_fill_2 13 = .ok (.if_icmp .ge 14, 3) := dk_162 0 14 (dk_at dksJ0_fill_2_0 13 rfl rfl)
theorem dJ0_fill_2_16 : decode cJ0_fill_2 16 = .ok (.aload_n 0, 1) := dk_42 (dk_at dksJ0_fill_2_0 16 rfl rfl)
theorem dJ0_fill_2_17 : decode cJ0_fill_2 17 = .ok (.iload 4, 2) := dk_21 4 (dk_at dksJ0_fill_2_0 17 rfl rfl)
theorem dJ0_fill_2_19 : decode cJ0_fill_2 19 = .ok (.iload_n 3, 1) := dk_29 (dk_at dksJ0_fill_2_0 19 rfl rfl)
theorem dJ0_fill_2_20 : decode cJ0_fill_2 20 = .ok (.iastore, 1) := dk_79 (dk_at dksJ0_fill_2_0 20 rfl rfl)
theorem dJ0_fill_2_21 : decode cJ0_fill_2 21 = .ok (.iinc 4 1, 3) := dk_132 4 1 (dk_at dksJ0_fill_2_0 21 rfl rfl)
theorem dJ0_fill_2_24 : decode cJ0_fill_2 24 = .ok (.goto (-14), 3) := dk_167 255 242 (dk_at dksJ0_fill_2_1 0 rfl rfl)
theorem dJ0_fill_2_27 : decode cJ0_fill_2 27 = .ok (.return_, 1) := dk_177 (dk_at dksJ0_fill_2_1 3 rfl rfl)
abbrev MJ0_fill_2 : jjM := (yJ0_fill_2, cJ0_fill_2, 5, (Option.none : Option Jvm.ClassFile.FieldType))
theorem npJ0_fill_2 : yJ0_fill_2.cls ≠ "java/lang/invoke/MethodHandle" ∧ yJ0_fill_2.cls ≠ "java/lang/invoke/VarHandle" ∧ (parseMethodDescriptor yJ0_fill_2.desc).map (fun d => d.parameters.length) = some 4 := by decide +kernel
abbrev cJ0_rangeCheck : ByteArray := prog_39_method_30_code
def yJ0_rangeCheck : MethodName := ⟨RJ0, "rangeCheck", "(III)V"⟩
def dkwJ0_rangeCheck_3 : List UInt8 := [183, 0, 70, 191, 177]
abbrev dktJ0_rangeCheck_3 : List UInt8 := dkwJ0_rangeCheck_3 ++ []
def dkwJ0_rangeCheck_2 : List UInt8 := [27, 156, 0, 12, 187, 0, 68, 89, 27, 183, 0, 70, 191, 28, 26, 164, 0, 12, 187, 0, 68, 89, 28]
abbrev dktJ0_rangeCheck_2 : List UInt8 := dkwJ0_rangeCheck_2 ++ dktJ0_rangeCheck_3
def dkwJ0_rangeCheck_1 : List UInt8 := [182, 0, 54, 18, 57, 182, 0, 50, 28, 182, 0, 54, 18, 59, 182, 0, 50, 182, 0, 61, 183, 0, 65, 191]
abbrev dktJ0_rangeCheck_1 : List UInt8 := dkwJ0_rangeCheck_1 ++ dktJ0_rangeCheck_2
def dkwJ0_rangeCheck_0 : List UInt8 := [27, 28, 164, 0, 44, 187, 0, 43, 89, 187, 0, 45, 89, 183, 0, 47, 18, 48, 182, 0, 50, 27]
abbrev dktJ0_rangeCheck_0 : List UInt8 := dkwJ0_rangeCheck_0 ++ dktJ0_rangeCheck_1
theorem dksJ0_rangeCheck_0 : cJ0_rangeCheck.data.toList.drop 0 = dktJ0_rangeCheck_0 := by decide +kernel
theorem dksJ0_rangeCheck_1 : cJ0_rangeCheck.data.toList.drop 22 = dktJ0_rangeCheck_1 := dk_seg dksJ0_rangeCheck_0 22 rfl rfl
theorem dksJ0_rangeCheck_2 : cJ0_rangeCheck.data.toList.drop 46 = dktJ0_rangeCheck_2 := dk_seg dksJ0_rangeCheck_1 24 rfl rfl
theorem dksJ0_rangeCheck_3 : cJ0_rangeCheck.data.toList.drop 69 = dktJ0_rangeCheck_3 := dk_seg dksJ0_rangeCheck_2 23 rfl rfl
theorem dJ0_rangeCheck_0 : decode cJ0_rangeCheck 0 = .ok (.iload_n 1, 1) := dk_27 (dk_at dksJ0_rangeCheck_0 0 rfl rfl)
theorem dJ0_rangeCheck_1 : decode cJ0_rangeCheck 1 = .ok (.iload_n 2, 1) := dk_28 (dk_at dksJ0_rangeCheck_0 1 rfl rfl)
theorem dJ0_rangeCheck_2 : decode cJ0_rangeCheck 2 = .ok (.if_icmp .le 44, 3) := dk_164 0 44 (dk_at dksJ0_rangeCheck_0 2 rfl rfl)
theorem dJ0_rangeCheck_5 : decode cJ0_rangeCheck 5 = .ok (.new 43, 3) := dk_187 0 43 (dk_at dksJ0_rangeCheck_0 5 rfl rfl)
theorem dJ0_rangeCheck_8 : decode cJ0_rangeCheck 8 = .ok (.dup, 1) := dk_89 (dk_at dksJ0_rangeCheck_0 8 rfl rfl)
theorem dJ0_rangeCheck_9 : decode cJ0_rangeCheck 9 = .ok (.new 45, 3) := dk_187 0 45 (dk_at dksJ0_rangeCheck_0 9 rfl rfl)
theorem dJ0_rangeCheck_12 : decode cJ0_rangeCheck 12 = .ok (.dup, 1) := dk_89 (dk_at dksJ0_rangeCheck_0 12 rfl rfl)
theorem dJ0_rangeCheck_13 : decode cJ0_rangeCheck 13 = .ok (.invokespecial 47, 3) := dk_183 0 47 (dk_at dksJ0_rangeCheck_0 13 rfl rfl)
theorem dJ0_rangeCheck_16 : decode cJ0_rangeCheck 16 = .ok (.ldc 48, 2) := dk_18 48 (dk_at dksJ0_rangeCheck_0 16 rfl rfl)
theorem dJ0_rangeCheck_18 : decode cJ0_rangeCheck 18 = .ok (.invokevirtual 50, 3) := dk_182 0 50 (dk_at dksJ0_rangeCheck_0 18 rfl rfl)
theorem dJ0_rangeCheck_21 : decode cJ0_rangeCheck 21 = .ok (.iload_n 1, 1) := dk_27 (dk_at dksJ0_rangeCheck_0 21 rfl rfl)
theorem dJ0_rangeCheck_22 : decode cJ0_rangeCheck 22 = .ok (.invokevirtual 54, 3) := dk_182 0 54 (dk_at dksJ0_rangeCheck_1 0 rfl rfl)
theorem dJ0_rangeCheck_25 : decode cJ0_rangeCheck 25 = .ok (.ldc 57, 2) := dk_18 57 (dk_at dksJ0_rangeCheck_1 3 rfl rfl)
theorem dJ0_rangeCheck_27 : decode cJ0_rangeCheck 27 = .ok (.invokevirtual 50, 3) := dk_182 0 50 (dk_at dksJ0_rangeCheck_1 5 rfl rfl)
theorem dJ0_rangeCheck_30 : decode cJ0_rangeCheck 30 = .ok (.iload_n 2, 1) := dk_28 (dk_at dksJ0_rangeCheck_1 8 rfl rfl)
theorem dJ0_rangeCheck_31 : decode cJ0_rangeCheck 31 = .ok (.invokevirtual 54, 3) := dk_182 0 54 (dk_at dksJ0_rangeCheck_1 9 rfl rfl)
theorem dJ0_rangeCheck_34 : decode cJ0_rangeCheck 34 = .ok (.ldc 59, 2) := dk_18 59 (dk_at dksJ0_rangeCheck_1 12 rfl rfl)
theorem dJ0_rangeCheck_36 : decode cJ0_rangeCheck 36 = .ok (.invokevirtual 50, 3) := dk_182 0 50 (dk_at dksJ0_rangeCheck_1 14 rfl rfl)
theorem dJ0_rangeCheck_39 : decode cJ0_rangeCheck 39 = .ok (.invokevirtual 61, 3) := dk_182 0 61 (dk_at dksJ0_rangeCheck_1 17 rfl rfl)
theorem dJ0_rangeCheck_42 : decode cJ0_rangeCheck 42 = .ok (.invokespecial 65, 3) := dk_183 0 65 (dk_at dksJ0_rangeCheck_1 20 rfl rfl)
theorem dJ0_rangeCheck_45 : decode cJ0_rangeCheck 45 = .ok (.athrow, 1) := dk_191 (dk_at dksJ0_rangeCheck_1 23 rfl rfl)
theorem dJ0_rangeCheck_46 : decode cJ0_rangeCheck 46 = .ok (.iload_n 1, 1) := dk_27 (dk_at dksJ0_rangeCheck_2 0 rfl rfl)
theorem dJ0_rangeCheck_47 : decode cJ0_rangeCheck 47 = .ok (.ifCond .ge 12, 3) := dk_156 0 12 (dk_at dksJ0_rangeCheck_2 1 rfl rfl)
theorem dJ0_rangeCheck_50 : decode cJ0_rangeCheck 50 = .ok (.new 68, 3) := dk_187 0 68 (dk_at dksJ0_rangeCheck_2 4 rfl rfl)
theorem dJ0_rangeCheck_53 : decode cJ0_rangeCheck 53 = .ok (.dup, 1) := dk_89 (dk_at dksJ0_rangeCheck_2 7 rfl rfl)
theorem dJ0_rangeCheck_54 : decode cJ0_rangeCheck 54 = .ok (.iload_n 1, 1) := dk_27 (dk_at dksJ0_rangeCheck_2 8 rfl rfl)
theorem dJ0_rangeCheck_55 : decode cJ0_rangeCheck 55 = .ok (.invokespecial 70, 3) := dk_183 0 70 (dk_at dksJ0_rangeCheck_2 9 rfl rfl)
theorem dJ0_rangeCheck_58 : decode cJ0_rangeCheck 58 = .ok (.athrow, 1) := dk_191 (dk_at dksJ0_rangeCheck_2 12 rfl rfl)
theorem dJ0_rangeCheck_59 : decode cJ0_rangeCheck 59 = .ok (.iload_n 2, 1) := dk_28 (dk_at dksJ0_rangeCheck_2 13 rfl rfl)
theorem dJ0_rangeCheck_60 : decode cJ0_rangeCheck 60 = .ok (.iload_n 0, 1) := dk_26 (dk_at dksJ0_rangeCheck_2 14 rfl rfl)
theorem dJ0_rangeCheck_61 : decode cJ0_rangeCheck 61 = .ok (.if_icmp .le 12, 3) := dk_164 0 12 (dk_at dksJ0_rangeCheck_2 15 rfl rfl)
theorem dJ0_rangeCheck_64 : decode cJ0_rangeCheck 64 = .ok (.new 68, 3) := dk_187 0 68 (dk_at dksJ0_rangeCheck_2 18 rfl rfl)
theorem dJ0_rangeCheck_67 : decode cJ0_rangeCheck 67 = .ok (.dup, 1) := dk_89 (dk_at dksJ0_rangeCheck_2 21 rfl rfl)
theorem dJ0_rangeCheck_68 : decode cJ0_rangeCheck 68 = .ok (.iload_n 2, 1) := dk_28 (dk_at dksJ0_rangeCheck_2 22 rfl rfl)
theorem dJ0_rangeCheck_69 : decode cJ0_rangeCheck 69 = .ok (.invokespecial 70, 3) := dk_183 0 70 (dk_at dksJ0_rangeCheck_3 0 rfl rfl)
theorem dJ0_rangeCheck_72 : decode cJ0_rangeCheck 72 = .ok (.athrow, 1) := dk_191 (dk_at dksJ0_rangeCheck_3 3 rfl rfl)
theorem dJ0_rangeCheck_73 : decode cJ0_rangeCheck 73 = .ok (.return_, 1) := dk_177 (dk_at dksJ0_rangeCheck_3 4 rfl rfl)
abbrev MJ0_rangeCheck : jjM := (yJ0_rangeCheck, cJ0_rangeCheck, 3, (Option.none : Option Jvm.ClassFile.FieldType))
theorem npJ0_rangeCheck : yJ0_rangeCheck.cls ≠ "java/lang/invoke/MethodHandle" ∧ yJ0_rangeCheck.cls ≠ "java/lang/invoke/VarHandle" ∧ (parseMethodDescriptor yJ0_rangeCheck.desc).map (fun d => d.parameters.length) = some 3 := by decide +kernel
abbrev cJ0_copyOf : ByteArray := prog_39_method_119_code
def yJ0_copyOf : MethodName := ⟨RJ0, "copyOf", "([Ljava/lang/Object;I)[Ljava/lang/Object;"⟩
def dkwJ0_copyOf_0 : List UInt8 := [42, 27, 42, 182, 0, 86, 184, 1, 44, 176]
abbrev dktJ0_copyOf_0 : List UInt8 := dkwJ0_copyOf_0 ++ []
theorem dksJ0_copyOf_0 : cJ0_copyOf.data.toList.drop 0 = dktJ0_copyOf_0 := by decide +kernel
theorem dJ0_copyOf_0 : decode cJ0_copyOf 0 = .ok (.aload_n 0, 1) := dk_42 (dk_at dksJ0_copyOf_0 0 rfl rfl)
theorem dJ0_copyOf_1 : decode cJ0_copyOf 1 = .ok (.iload_n 1, 1) := dk_27 (dk_at dksJ0_copyOf_0 1 rfl rfl)
theorem dJ0_copyOf_2 : decode cJ0_copyOf 2 = .ok (.aload_n 0, 1) := dk_42 (dk_at dksJ0_copyOf_0 2 rfl rfl)
theorem dJ0_copyOf_3 : decode cJ0_copyOf 3 = .ok (.invokevirtual 86, 3) := dk_182 0 86 (dk_at dksJ0_copyOf_0 3 rfl rfl)
theorem dJ0_copyOf_6 : decode cJ0_copyOf 6 = .ok (.invokestatic 300, 3) := dk_184 1 44 (dk_at dksJ0_copyOf_0 6 rfl rfl)
theorem dJ0_copyOf_9 : decode cJ0_copyOf 9 = .ok (.areturn, 1) := dk_176 (dk_at dksJ0_copyOf_0 9 rfl rfl)
abbrev MJ0_copyOf : jjM := (yJ0_copyOf, cJ0_copyOf, 2, (Option.some (Jvm.ClassFile.FieldType.array (Jvm.ClassFile.FieldType.object "java/lang/Object"))))
theorem npJ0_copyOf : yJ0_copyOf.cls ≠ "java/lang/invoke/MethodHandle" ∧ yJ0_copyOf.cls ≠ "java/lang/invoke/VarHandle" ∧ (parseMethodDescriptor yJ0_copyOf.desc).map (fun d => d.parameters.length) = some 2 := by decide +kernel
abbrev cJ0_copyOf_2 : ByteArray := prog_39_method_120_code
def yJ0_copyOf_2 : MethodName := ⟨RJ0, "copyOf", "([Ljava/lang/Object;ILjava/lang/Class;)[Ljava/lang/Object;"⟩
def dkwJ0_copyOf_2_1 : List UInt8 := [78, 42, 3, 45, 3, 42, 190, 27, 184, 1, 48, 184, 0, 150, 45, 176]
abbrev dktJ0_copyOf_2_1 : List UInt8 := dkwJ0_copyOf_2_1 ++ []
def dkwJ0_copyOf_2_0 : List UInt8 := [44, 18, 110, 166, 0, 10, 27, 189, 0, 2, 167, 0, 14, 44, 182, 0, 90, 27, 184, 0, 95, 192, 0, 110]
abbrev dktJ0_copyOf_2_0 : List UInt8 := dkwJ0_copyOf_2_0 ++ dktJ0_copyOf_2_1
theorem dksJ0_copyOf_2_0 : cJ0_copyOf_2.data.toList.drop 0 = dktJ0_copyOf_2_0 := by decide +kernel
theorem dksJ0_copyOf_2_1 : cJ0_copyOf_2.data.toList.drop 24 = dktJ0_copyOf_2_1 := dk_seg dksJ0_copyOf_2_0 24 rfl rfl
theorem dJ0_copyOf_2_0 : decode cJ0_copyOf_2 0 = .ok (.aload_n 2, 1) := dk_44 (dk_at dksJ0_copyOf_2_0 0 rfl rfl)
theorem dJ0_copyOf_2_1 : decode cJ0_copyOf_2 1 = .ok (.ldc 110, 2) := dk_18 110 (dk_at dksJ0_copyOf_2_0 1 rfl rfl)
theorem dJ0_copyOf_2_3 : decode cJ0_copyOf_2 3 = .ok (.if_acmp .ne 10, 3) := dk_166 0 10 (dk_at dksJ0_copyOf_2_0 3 rfl rfl)
theorem dJ0_copyOf_2_6 : decode cJ0_copyOf_2 6 = .ok (.iload_n 1, 1) := dk_27 (dk_at dksJ0_copyOf_2_0 6 rfl rfl)
theorem dJ0_copyOf_2_7 : decode cJ0_copyOf_2 7 = .ok (.anewarray 2, 3) := dk_189 0 2 (dk_at dksJ0_copyOf_2_0 7 rfl rfl)
theorem dJ0_copyOf_2_10 : decode cJ0_copyOf_2 10 = .ok (.goto 14, 3) := dk_167 0 14 (dk_at dksJ0_copyOf_2_0 10 rfl rfl)
theorem dJ0_copyOf_2_13 : decode cJ0_copyOf_2 13 = .ok (.aload_n 2, 1) := dk_44 (dk_at dksJ0_copyOf_2_0 13 rfl rfl)
theorem dJ0_copyOf_2_14 : decode cJ0_copyOf_2 14 = .ok (.invokevirtual 90, 3) := dk_182 0 90 (dk_at dksJ0_copyOf_2_0 14 rfl rfl)
theorem dJ0_copyOf_2_17 : decode cJ0_copyOf_2 17 = .ok (.iload_n 1, 1) := dk_27 (dk_at dksJ0_copyOf_2_0 17 rfl rfl)
theorem dJ0_copyOf_2_18 : decode cJ0_copyOf_2 18 = .ok (.invokestatic 95, 3) := dk_184 0 95 (dk_at dksJ0_copyOf_2_0 18 rfl rfl)
theorem dJ0_copyOf_2_21 : decode cJ0_copyOf_2 21 = .ok (.checkcast 110, 3) := dk_192 0 110 (dk_at dksJ0_copyOf_2_0 21 rfl rfl)
theorem dJ0_copyOf_2_24 : decode cJ0_copyOf_2 24 = .ok (.astore_n 3, 1) := dk_78 (dk_at dksJ0_copyOf_2_1 0 rfl rfl)
theorem dJ0_copyOf_2_25 : decode cJ0_copyOf_2 25 = .ok (.aload_n 0, 1) := dk_42 (dk_at dksJ0_copyOf_2_1 1 rfl rfl)
theorem dJ0_copyOf_2_26 : decode cJ0_copyOf_2 26 = .ok (.iconst 0, 1) := dk_3 (dk_at dksJ0_copyOf_2_1 2 rfl rfl)
theorem dJ0_copyOf_2_27 : decode cJ0_copyOf_2 27 = .ok (.aload_n 3, 1) := dk_45 (dk_at dksJ0_copyOf_2_1 3 rfl rfl)
theorem dJ0_copyOf_2_28 : decode cJ0_copyOf_2 28 = .ok (.iconst 0, 1) := dk_3 (dk_at dksJ0_copyOf_2_1 4 rfl rfl)
theorem dJ0_copyOf_2_29 : decode cJ0_copyOf_2 29 = .ok (.aload_n 0, 1) := dk_42 (dk_at dksJ0_copyOf_2_1 5 rfl rfl)
theorem dJ0_copyOf_2_30 : decode cJ0_copyOf_2 30 = .ok (.arraylength, 1) := dk_190 (dk_at dksJ0_copyOf_2_1 6 rfl rfl)
theorem dJ0_copyOf_2_31 : decode cJ0_copyOf_2 31 = .ok (.iload_n 1, 1) := dk_27 (dk_at dksJ0_copyOf_2_1 7 rfl rfl)
theorem dJ0_copyOf_2_32 : decode cJ0_copyOf_2 32 = .ok (.invokestatic 304, 3) := dk_184 1 48 (dk_at dksJ0_copyOf_2_1 8 rfl rfl)
theorem dJ0_copyOf_2_35 : decode cJ0_copyOf_2 35 = .ok (.invokestatic 150, 3) := dk_184 0 150 (dk_at dksJ0_copyOf_2_1 11 rfl rfl)
theorem dJ0_copyOf_2_38 : decode cJ0_copyOf_2 38 = .ok (.aload_n 3, 1) := dk_45 (dk_at dksJ0_copyOf_2_1 14 rfl rfl)
theorem dJ0_copyOf_2_39 : decode cJ0_copyOf_2 39 = .ok (.areturn, 1) := dk_176 (dk_at dksJ0_copyOf_2_1 15 rfl rfl)
abbrev MJ0_copyOf_2 : jjM := (yJ0_copyOf_2, cJ0_copyOf_2, 4, (Option.some (Jvm.ClassFile.FieldType.array (Jvm.ClassFile.FieldType.object "java/lang/Object"))))
theorem npJ0_copyOf_2 : yJ0_copyOf_2.cls ≠ "java/lang/invoke/MethodHandle" ∧ yJ0_copyOf_2.cls ≠ "java/lang/invoke/VarHandle" ∧ (parseMethodDescriptor yJ0_copyOf_2.desc).map (fun d => d.parameters.length) = some 3 := by decide +kernel
abbrev cJ1_checkIndex : ByteArray := prog_42_method_17_code
def yJ1_checkIndex : MethodName := ⟨RJ1, "checkIndex", "(II)I"⟩
def dkwJ1_checkIndex_0 : List UInt8 := [26, 27, 1, 184, 0, 105, 172]
abbrev dktJ1_checkIndex_0 : List UInt8 := dkwJ1_checkIndex_0 ++ []
theorem dksJ1_checkIndex_0 : cJ1_checkIndex.data.toList.drop 0 = dktJ1_checkIndex_0 := by decide +kernel
theorem dJ1_checkIndex_0 : decode cJ1_checkIndex 0 = .ok (.iload_n 0, 1) := dk_26 (dk_at dksJ1_checkIndex_0 0 rfl rfl)
theorem dJ1_checkIndex_1 : decode cJ1_checkIndex 1 = .ok (.iload_n 1, 1) := dk_27 (dk_at dksJ1_checkIndex_0 1 rfl rfl)
theorem dJ1_checkIndex_2 : decode cJ1_checkIndex 2 = .ok (.aconst_null, 1) := dk_1 (dk_at dksJ1_checkIndex_0 2 rfl rfl)
theorem dJ1_checkIndex_3 : decode cJ1_checkIndex 3 = .ok (.invokestatic 105, 3) := dk_184 0 105 (dk_at dksJ1_checkIndex_0 3 rfl rfl)
theorem dJ1_checkIndex_6 : decode cJ1_checkIndex 6 = .ok (.ireturn, 1) := dk_172 (dk_at dksJ1_checkIndex_0 6 rfl rfl)
abbrev MJ1_checkIndex : jjM := (yJ1_checkIndex, cJ1_checkIndex, 2, (Option.some Jvm.ClassFile.FieldType.int))
theorem npJ1_checkIndex : yJ1_checkIndex.cls ≠ "java/lang/invoke/MethodHandle" ∧ yJ1_checkIndex.cls ≠ "java/lang/invoke/VarHandle" ∧ (parseMethodDescriptor yJ1_checkIndex.desc).map (fun d => d.parameters.length) = some 2 := by decide +kernel
abbrev cJ10_init : ByteArray := prog_33_method_1_code
def yJ10_init : MethodName := ⟨RJ10, "<init>", "()V"⟩
def dkwJ10_init_1 : List UInt8 := [182, 0, 27, 87, 177]
abbrev dktJ10_init_1 : List UInt8 := dkwJ10_init_1 ++ []
def dkwJ10_init_0 : List UInt8 := [42, 183, 0, 1, 42, 42, 181, 0, 7, 42, 178, 0, 13, 181, 0, 17, 42, 178, 0, 20, 181, 0, 24, 42]
abbrev dktJ10_init_0 : List UInt8 := dkwJ10_init_0 ++ dktJ10_init_1
theorem dksJ10_init_0 : cJ10_init.data.toList.drop 0 = dktJ10_init_0 := by decide +kernel
theorem dksJ10_init_1 : cJ10_init.data.toList.drop 24 = dktJ10_init_1 := dk_seg dksJ10_init_0 24 rfl rfl
theorem dJ10_init_0 : decode cJ10_init 0 = .ok (.aload_n 0, 1) := dk_42 (dk_at dksJ10_init_0 0 rfl rfl)
theorem dJ10_init_1 : decode cJ10_init 1 = .ok (.invokespecial 1, 3) := dk_183 0 1 (dk_at dksJ10_init_0 1 rfl rfl)
theorem dJ10_init_4 : decode cJ10_init 4 = .ok (.aload_n 0, 1) := dk_42 (dk_at dksJ10_init_0 4 rfl rfl)
theorem dJ10_init_5 : decode cJ10_init 5 = .ok (.aload_n 0, 1) := dk_42 (dk_at dksJ10_init_0 5 rfl rfl)
theorem dJ10_init_6 : decode cJ10_init 6 = .ok (.putfield 7, 3) := dk_181 0 7 (dk_at dksJ10_init_0 6 rfl rfl)
theorem dJ10_init_9 : decode cJ10_init 9 = .ok (.aload_n 0, 1) := dk_42 (dk_at dksJ10_init_0 9 rfl rfl)
theorem dJ10_init_10 : decode cJ10_init 10 = .ok (.getstatic 13, 3) := dk_178 0 13 (dk_at dksJ10_init_0 10 rfl rfl)
theorem dJ10_init_13 : decode cJ10_init 13 = .ok (.putfield 17, 3) := dk_181 0 17 (dk_at dksJ10_init_0 13 rfl rfl)
theorem dJ10_init_16 : decode cJ10_init 16 = .ok (.aload_n 0, 1) := dk_42 (dk_at dksJ10_init_0 16 rfl rfl)
theorem dJ10_init_17 : decode cJ10_init 17 = .ok (.getstatic 20, 3) := dk_178 0 20 (dk_at dksJ10_init_0 17 rfl rfl)
theorem dJ10_init_20 : decode cJ10_init 20 = .ok (.putfield 24, 3) := dk_181 0 24 (dk_at dksJ10_init_0 20 rfl rfl)
theorem dJ10_init_23 : decode cJ10_init 23 = .ok (.aload_n 0, 1) := dk_42 (dk_at dksJ10_init_0 23 rfl rfl)
theorem dJ10_init_24 : decode cJ10_init 24 = .ok (.invokevirtual 27, 3) := dk_182 0 27 (dk_at dksJ10_init_1 0 rfl rfl)
theorem dJ10_init_27 : decode cJ10_init 27 = .ok (.pop, 1) := dk_87 (dk_at dksJ10_init_1 3 rfl rfl)
theorem dJ10_init_28 : decode cJ10_init 28 = .ok (.return_, 1) := dk_177 (dk_at dksJ10_init_1 4 rfl rfl)
abbrev MJ10_init : jjM := (yJ10_init, cJ10_init, 1, (Option.none : Option Jvm.ClassFile.FieldType))
theorem npJ10_init : yJ10_init.cls ≠ "java/lang/invoke/MethodHandle" ∧ yJ10_init.cls ≠ "java/lang/invoke/VarHandle" ∧ (parseMethodDescriptor yJ10_init.desc).map (fun d => d.parameters.length) = some 0 := by decide +kernel
abbrev cJ11_init : ByteArray := prog_22_method_1_code
def yJ11_init : MethodName := ⟨RJ11, "<init>", "()V"⟩
theorem dJ11_init_0 : decode cJ11_init 0 = .ok (.aload_n 0, 1) := by decide +kernel
theorem dJ11_init_1 : decode cJ11_init 1 = .ok (.invokespecial 1, 3) := by decide +kernel
theorem dJ11_init_4 : decode cJ11_init 4 = .ok (.return_, 1) := by decide +kernel
abbrev MJ11_init : jjM := (yJ11_init, cJ11_init, 1, (Option.none : Option Jvm.ClassFile.FieldType))
theorem npJ11_init : yJ11_init.cls ≠ "java/lang/invoke/MethodHandle" ∧ yJ11_init.cls ≠ "java/lang/invoke/VarHandle" ∧ (parseMethodDescriptor yJ11_init.desc).map (fun d => d.parameters.length) = some 0 := by decide +kernel
abbrev cJ12_init : ByteArray := prog_28_method_1_code
def yJ12_init : MethodName := ⟨RJ12, "<init>", "()V"⟩
theorem dJ12_init_0 : decode cJ12_init 0 = .ok (.aload_n 0, 1) := by decide +kernel
theorem dJ12_init_1 : decode cJ12_init 1 = .ok (.invokespecial 1, 3) := by decide +kernel
theorem dJ12_init_4 : decode cJ12_init 4 = .ok (.return_, 1) := by decide +kernel
abbrev MJ12_init : jjM := (yJ12_init, cJ12_init, 1, (Option.none : Option Jvm.ClassFile.FieldType))
theorem npJ12_init : yJ12_init.cls ≠ "java/lang/invoke/MethodHandle" ∧ yJ12_init.cls ≠ "java/lang/invoke/VarHandle" ∧ (parseMethodDescriptor yJ12_init.desc).map (fun d => d.parameters.length) = some 0 := by decide +kernel
abbrev cJ13_init : ByteArray := prog_27_method_1_code
def yJ13_init : MethodName := ⟨RJ13, "<init>", "()V"⟩
theorem dJ13_init_0 : decode cJ13_init 0 = .ok (.aload_n 0, 1) := by decide +kernel
theorem dJ13_init_1 : decode cJ13_init 1 = .ok (.invokespecial 1, 3) := by decide +kernel
theorem dJ13_init_4 : decode cJ13_init 4 = .ok (.return_, 1) := by decide +kernel
abbrev MJ13_init : jjM := (yJ13_init, cJ13_init, 1, (Option.none : Option Jvm.ClassFile.FieldType))
theorem npJ13_init : yJ13_init.cls ≠ "java/lang/invoke/MethodHandle" ∧ yJ13_init.cls ≠ "java/lang/invoke/VarHandle" ∧ (parseMethodDescriptor yJ13_init.desc).map (fun d => d.parameters.length) = some 0 := by decide +kernel
abbrev cJ14_intValue : ByteArray := prog_23_method_27_code
def yJ14_intValue : MethodName := ⟨RJ14, "intValue", "()I"⟩
theorem dJ14_intValue_0 : decode cJ14_intValue 0 = .ok (.aload_n 0, 1) := by decide +kernel
theorem dJ14_intValue_1 : decode cJ14_intValue 1 = .ok (.getfield 205, 3) := by decide +kernel
theorem dJ14_intValue_4 : decode cJ14_intValue 4 = .ok (.ireturn, 1) := by decide +kernel
abbrev MJ14_intValue : jjM := (yJ14_intValue, cJ14_intValue, 1, (Option.some Jvm.ClassFile.FieldType.int))
theorem npJ14_intValue : yJ14_intValue.cls ≠ "java/lang/invoke/MethodHandle" ∧ yJ14_intValue.cls ≠ "java/lang/invoke/VarHandle" ∧ (parseMethodDescriptor yJ14_intValue.desc).map (fun d => d.parameters.length) = some 0 := by decide +kernel
abbrev cJ14_valueOf : ByteArray := prog_23_method_22_code
def yJ14_valueOf : MethodName := ⟨RJ14, "valueOf", "(I)Ljava/lang/Integer;"⟩
def dkwJ14_valueOf_1 : List UInt8 := [187, 0, 1, 89, 26, 183, 0, 199, 176]
abbrev dktJ14_valueOf_1 : List UInt8 := dkwJ14_valueOf_1 ++ []
def dkwJ14_valueOf_0 : List UInt8 := [26, 16, 128, 161, 0, 20, 26, 178, 0, 191, 163, 0, 13, 178, 0, 195, 26, 17, 0, 128, 96, 50, 176]
abbrev dktJ14_valueOf_0 : List UInt8 := dkwJ14_valueOf_0 ++ dktJ14_valueOf_1
theorem dksJ14_valueOf_0 : cJ14_valueOf.data.toList.drop 0 = dktJ14_valueOf_0 := by decide +kernel
theorem dksJ14_valueOf_1 : cJ14_valueOf.data.toList.drop 23 = dktJ14_valueOf_1 := dk_seg dksJ14_valueOf_0 23 rfl rfl
theorem dJ14_valueOf_0 : decode cJ14_valueOf 0 = .ok (.iload_n 0, 1) := dk_26 (dk_at dksJ14_valueOf_0 0 rfl rfl)
theorem dJ14_valueOf_1 : decode cJ14_valueOf 1 = .ok (.bipush (-128), 2) := dk_16 128 (dk_at dksJ14_valueOf_0 1 rfl rfl)
theorem dJ14_valueOf_3 : decode cJ14_valueOf 3 = .ok (.if_icmp .lt 20, 3) := dk_161 0 20 (dk_at dksJ14_valueOf_0 3 rfl rfl)
theorem dJ14_valueOf_6 : decode cJ14_valueOf 6 = .ok (.iload_n 0, 1) := dk_26 (dk_at dksJ14_valueOf_0 6 rfl rfl)
theorem dJ14_valueOf_7 : decode cJ14_valueOf 7 = .ok (.getstatic 191, 3) := dk_178 0 191 (dk_at dksJ14_valueOf_0 7 rfl rfl)
theorem dJ14_valueOf_10 : decode cJ14_valueOf 10 = .ok (.if_icmp .gt 13, 3) := dk_163 0 13 (dk_at dksJ14_valueOf_0 10 rfl rfl)
theorem dJ14_valueOf_13 : decode cJ14_valueOf 13 = .ok (.getstatic 195, 3) := dk_178 0 195 (dk_at dksJ14_valueOf_0 13 rfl rfl)
theorem dJ14_valueOf_16 : decode cJ14_valueOf 16 = .ok (.iload_n 0, 1) := dk_26 (dk_at dksJ14_valueOf_0 16 rfl rfl)
theorem dJ14_valueOf_17 : decode cJ14_valueOf 17 = .ok (.sipush 128, 3) := dk_17 0 128 (dk_at dksJ14_valueOf_0 17 rfl rfl)
theorem dJ14_valueOf_20 : decode cJ14_valueOf 20 = .ok (.iadd, 1) := dk_96 (dk_at dksJ14_valueOf_0 20 rfl rfl)
theorem dJ14_valueOf_21 : decode cJ14_valueOf 21 = .ok (.aaload, 1) := dk_50 (dk_at dksJ14_valueOf_0 21 rfl rfl)
theorem dJ14_valueOf_22 : decode cJ14_valueOf 22 = .ok (.areturn, 1) := dk_176 (dk_at dksJ14_valueOf_0 22 rfl rfl)
theorem dJ14_valueOf_23 : decode cJ14_valueOf 23 = .ok (.new 1, 3) := dk_187 0 1 (dk_at dksJ14_valueOf_1 0 rfl rfl)
theorem dJ14_valueOf_26 : decode cJ14_valueOf 26 = .ok (.dup, 1) := dk_89 (dk_at dksJ14_valueOf_1 3 rfl rfl)
theorem dJ14_valueOf_27 : decode cJ14_valueOf 27 = .ok (.iload_n 0, 1) := dk_26 (dk_at dksJ14_valueOf_1 4 rfl rfl)
theorem dJ14_valueOf_28 : decode cJ14_valueOf 28 = .ok (.invokespecial 199, 3) := dk_183 0 199 (dk_at dksJ14_valueOf_1 5 rfl rfl)
theorem dJ14_valueOf_31 : decode cJ14_valueOf 31 = .ok (.areturn, 1) := dk_176 (dk_at dksJ14_valueOf_1 8 rfl rfl)
abbrev MJ14_valueOf : jjM := (yJ14_valueOf, cJ14_valueOf, 1, (Option.some (Jvm.ClassFile.FieldType.object "java/lang/Integer")))
theorem npJ14_valueOf : yJ14_valueOf.cls ≠ "java/lang/invoke/MethodHandle" ∧ yJ14_valueOf.cls ≠ "java/lang/invoke/VarHandle" ∧ (parseMethodDescriptor yJ14_valueOf.desc).map (fun d => d.parameters.length) = some 1 := by decide +kernel
abbrev cJ14_init : ByteArray := prog_23_method_23_code
def yJ14_init : MethodName := ⟨RJ14, "<init>", "(I)V"⟩
def dkwJ14_init_0 : List UInt8 := [42, 183, 0, 202, 42, 27, 181, 0, 205, 177]
abbrev dktJ14_init_0 : List UInt8 := dkwJ14_init_0 ++ []
theorem dksJ14_init_0 : cJ14_init.data.toList.drop 0 = dktJ14_init_0 := by decide +kernel
theorem dJ14_init_0 : decode cJ14_init 0 = .ok (.aload_n 0, 1) := dk_42 (dk_at dksJ14_init_0 0 rfl rfl)
theorem dJ14_init_1 : decode cJ14_init 1 = .ok (.invokespecial 202, 3) := dk_183 0 202 (dk_at dksJ14_init_0 1 rfl rfl)
theorem dJ14_init_4 : decode cJ14_init 4 = .ok (.aload_n 0, 1) := dk_42 (dk_at dksJ14_init_0 4 rfl rfl)
theorem dJ14_init_5 : decode cJ14_init 5 = .ok (.iload_n 1, 1) := dk_27 (dk_at dksJ14_init_0 5 rfl rfl)
theorem dJ14_init_6 : decode cJ14_init 6 = .ok (.putfield 205, 3) := dk_181 0 205 (dk_at dksJ14_init_0 6 rfl rfl)
theorem dJ14_init_9 : decode cJ14_init 9 = .ok (.return_, 1) := dk_177 (dk_at dksJ14_init_0 9 rfl rfl)
abbrev MJ14_init : jjM := (yJ14_init, cJ14_init, 2, (Option.none : Option Jvm.ClassFile.FieldType))
theorem npJ14_init : yJ14_init.cls ≠ "java/lang/invoke/MethodHandle" ∧ yJ14_init.cls ≠ "java/lang/invoke/VarHandle" ∧ (parseMethodDescriptor yJ14_init.desc).map (fun d => d.parameters.length) = some 1 := by decide +kernel
abbrev cJ14_bitCount : ByteArray := prog_23_method_49_code
def yJ14_bitCount : MethodName := ⟨RJ14, "bitCount", "(I)I"⟩
def dkwJ14_bitCount_2 : List UInt8 := [26, 16, 63, 126, 172]
abbrev dktJ14_bitCount_2 : List UInt8 := dkwJ14_bitCount_2 ++ []
def dkwJ14_bitCount_1 : List UInt8 := [26, 26, 7, 124, 96, 19, 1, 11, 126, 59, 26, 26, 16, 8, 124, 96, 59, 26, 26, 16, 16, 124, 96, 59]
abbrev dktJ14_bitCount_1 : List UInt8 := dkwJ14_bitCount_1 ++ dktJ14_bitCount_2
def dkwJ14_bitCount_0 : List UInt8 := [26, 26, 4, 124, 19, 1, 9, 126, 100, 59, 26, 19, 1, 10, 126, 26, 5, 124, 19, 1, 10, 126, 96, 59]
abbrev dktJ14_bitCount_0 : List UInt8 := dkwJ14_bitCount_0 ++ dktJ14_bitCount_1
theorem dksJ14_bitCount_0 : cJ14_bitCount.data.toList.drop 0 = dktJ14_bitCount_0 := by decide +kernel
theorem dksJ14_bitCount_1 : cJ14_bitCount.data.toList.drop 24 = dktJ14_bitCount_1 := dk_seg dksJ14_bitCount_0 24 rfl rfl
theorem dksJ14_bitCount_2 : cJ14_bitCount.data.toList.drop 48 = dktJ14_bitCount_2 := dk_seg dksJ14_bitCount_1 24 rfl rfl
theorem dJ14_bitCount_0 : decode cJ14_bitCount 0 = .ok (.iload_n 0, 1) := dk_26 (dk_at dksJ14_bitCount_0 0 rfl rfl)
theorem dJ14_bitCount_1 : decode cJ14_bitCount 1 = .ok (.iload_n 0, 1) := dk_26 (dk_at dksJ14_bitCount_0 1 rfl rfl)
theorem dJ14_bitCount_2 : decode cJ14_bitCount 2 = .ok (.iconst 1, 1) := dk_4 (dk_at dksJ14_bitCount_0 2 rfl rfl)
theorem dJ14_bitCount_3 : decode cJ14_bitCount 3 = .ok (.iushr, 1) := dk_124 (dk_at dksJ14_bitCount_0 3 rfl rfl)
theorem dJ14_bitCount_4 : decode cJ14_bitCount 4 = .ok (.ldc_w 265, 3) := dk_19 1 9 (dk_at dksJ14_bitCount_0 4 rfl rfl)
theorem dJ14_bitCount_7 : decode cJ14_bitCount 7 = .ok (.iand, 1) := dk_126 (dk_at dksJ14_bitCount_0 7 rfl rfl)
theorem dJ14_bitCount_8 : decode cJ14_bitCount 8 = .ok (.isub, 1) := dk_100 (dk_at dksJ14_bitCount_0 8 rfl rfl)
theorem dJ14_bitCount_9 : decode cJ14_bitCount 9 = .ok (.istore_n 0, 1) := dk_59 (dk_at dksJ14_bitCount_0 9 rfl rfl)
theorem dJ14_bitCount_10 : decode cJ14_bitCount 10 = .ok (.iload_n 0, 1) := dk_26 (dk_at dksJ14_bitCount_0 10 rfl rfl)
theorem dJ14_bitCount_11 : decode cJ14_bitCount 11 = .ok (.ldc_w 266, 3) := dk_19 1 10 (dk_at dksJ14_bitCount_0 11 rfl rfl)
theorem dJ14_bitCount_14 : decode cJ14_bitCount 14 = .ok (.iand, 1) := dk_126 (dk_at dksJ14_bitCount_0 14 rfl rfl)
theorem dJ14_bitCount_15 : decode cJ14_bitCount 15 = .ok (.iload_n 0, 1) := dk_26 (dk_at dksJ14_bitCount_0 15 rfl rfl)
theorem dJ14_bitCount_16 : decode cJ14_bitCount 16 = .ok (.iconst 2, 1) := dk_5 (dk_at dksJ14_bitCount_0 16 rfl rfl)
theorem dJ14_bitCount_17 : decode cJ14_bitCount 17 = .ok (.iushr, 1) := dk_124 (dk_at dksJ14_bitCount_0 17 rfl rfl)
theorem dJ14_bitCount_18 : decode cJ14_bitCount 18 = .ok (.ldc_w 266, 3) := dk_19 1 10 (dk_at dksJ14_bitCount_0 18 rfl rfl)
theorem dJ14_bitCount_21 : decode cJ14_bitCount 21 = .ok (.iand, 1) := dk_126 (dk_at dksJ14_bitCount_0 21 rfl rfl)
theorem dJ14_bitCount_22 : decode cJ14_bitCount 22 = .ok (.iadd, 1) := dk_96 (dk_at dksJ14_bitCount_0 22 rfl rfl)
theorem dJ14_bitCount_23 : decode cJ14_bitCount 23 = .ok (.istore_n 0, 1) := dk_59 (dk_at dksJ14_bitCount_0 23 rfl rfl)
theorem dJ14_bitCount_24 : decode cJ14_bitCount 24 = .ok (.iload_n 0, 1) := dk_26 (dk_at dksJ14_bitCount_1 0 rfl rfl)
theorem dJ14_bitCount_25 : decode cJ14_bitCount 25 = .ok (.iload_n 0, 1) := dk_26 (dk_at dksJ14_bitCount_1 1 rfl rfl)
theorem dJ14_bitCount_26 : decode cJ14_bitCount 26 = .ok (.iconst 4, 1) := dk_7 (dk_at dksJ14_bitCount_1 2 rfl rfl)
theorem dJ14_bitCount_27 : decode cJ14_bitCount 27 = .ok (.iushr, 1) := dk_124 (dk_at dksJ14_bitCount_1 3 rfl rfl)
theorem dJ14_bitCount_28 : decode cJ14_bitCount 28 = .ok (.iadd, 1) := dk_96 (dk_at dksJ14_bitCount_1 4 rfl rfl)
theorem dJ14_bitCount_29 : decode cJ14_bitCount 29 = .ok (.ldc_w 267, 3) := dk_19 1 11 (dk_at dksJ14_bitCount_1 5 rfl rfl)
theorem dJ14_bitCount_32 : decode cJ14_bitCount 32 = .ok (.iand, 1) := dk_126 (dk_at dksJ14_bitCount_1 8 rfl rfl)
theorem dJ14_bitCount_33 : decode cJ14_bitCount 33 = .ok (.istore_n 0, 1) := dk_59 (dk_at dksJ14_bitCount_1 9 rfl rfl)
theorem dJ14_bitCount_34 : decode cJ14_bitCount 34 = .ok (.iload_n 0, 1) := dk_26 (dk_at dksJ14_bitCount_1 10 rfl rfl)
theorem dJ14_bitCount_35 : decode cJ14_bitCount 35 = .ok (.iload_n 0, 1) := dk_26 (dk_at dksJ14_bitCount_1 11 rfl rfl)
theorem dJ14_bitCount_36 : decode cJ14_bitCount 36 = .ok (.bipush 8, 2) := dk_16 8 (dk_at dksJ14_bitCount_1 12 rfl rfl)
theorem dJ14_bitCount_38 : decode cJ14_bitCount 38 = .ok (.iushr, 1) := dk_124 (dk_at dksJ14_bitCount_1 14 rfl rfl)
theorem dJ14_bitCount_39 : decode cJ14_bitCount 39 = .ok (.iadd, 1) := dk_96 (dk_at dksJ14_bitCount_1 15 rfl rfl)
theorem dJ14_bitCount_40 : decode cJ14_bitCount 40 = .ok (.istore_n 0, 1) := dk_59 (dk_at dksJ14_bitCount_1 16 rfl rfl)
theorem dJ14_bitCount_41 : decode cJ14_bitCount 41 = .ok (.iload_n 0, 1) := dk_26 (dk_at dksJ14_bitCount_1 17 rfl rfl)
theorem dJ14_bitCount_42 : decode cJ14_bitCount 42 = .ok (.iload_n 0, 1) := dk_26 (dk_at dksJ14_bitCount_1 18 rfl rfl)
theorem dJ14_bitCount_43 : decode cJ14_bitCount 43 = .ok (.bipush 16, 2) := dk_16 16 (dk_at dksJ14_bitCount_1 19 rfl rfl)
theorem dJ14_bitCount_45 : decode cJ14_bitCount 45 = .ok (.iushr, 1) := dk_124 (dk_at dksJ14_bitCount_1 21 rfl rfl)
theorem dJ14_bitCount_46 : decode cJ14_bitCount 46 = .ok (.iadd, 1) := dk_96 (dk_at dksJ14_bitCount_1 22 rfl rfl)
theorem dJ14_bitCount_47 : decode cJ14_bitCount 47 = .ok (.istore_n 0, 1) := dk_59 (dk_at dksJ14_bitCount_1 23 rfl rfl)
theorem dJ14_bitCount_48 : decode cJ14_bitCount 48 = .ok (.iload_n 0, 1) := dk_26 (dk_at dksJ14_bitCount_2 0 rfl rfl)
theorem dJ14_bitCount_49 : decode cJ14_bitCount 49 = .ok (.bipush 63, 2) := dk_16 63 (dk_at dksJ14_bitCount_2 1 rfl rfl)
theorem dJ14_bitCount_51 : decode cJ14_bitCount 51 = .ok (.iand, 1) := dk_126 (dk_at dksJ14_bitCount_2 3 rfl rfl)
theorem dJ14_bitCount_52 : decode cJ14_bitCount 52 = .ok (.ireturn, 1) := dk_172 (dk_at dksJ14_bitCount_2 4 rfl rfl)
abbrev MJ14_bitCount : jjM := (yJ14_bitCount, cJ14_bitCount, 1, (Option.some Jvm.ClassFile.FieldType.int))
theorem npJ14_bitCount : yJ14_bitCount.cls ≠ "java/lang/invoke/MethodHandle" ∧ yJ14_bitCount.cls ≠ "java/lang/invoke/VarHandle" ∧ (parseMethodDescriptor yJ14_bitCount.desc).map (fun d => d.parameters.length) = some 1 := by decide +kernel
abbrev cJ15_newLength : ByteArray := prog_45_method_27_code
def yJ15_newLength : MethodName := ⟨RJ15, "newLength", "(III)I"⟩
def dkwJ15_newLength_1 : List UInt8 := [184, 0, 201, 172]
abbrev dktJ15_newLength_1 : List UInt8 := dkwJ15_newLength_1 ++ []
def dkwJ15_newLength_0 : List UInt8 := [26, 27, 28, 184, 0, 194, 96, 62, 3, 29, 162, 0, 11, 29, 18, 200, 163, 0, 5, 29, 172, 26, 27]
abbrev dktJ15_newLength_0 : List UInt8 := dkwJ15_newLength_0 ++ dktJ15_newLength_1
theorem dksJ15_newLength_0 : cJ15_newLength.data.toList.drop 0 = dktJ15_newLength_0 := by decide +kernel
theorem dksJ15_newLength_1 : cJ15_newLength.data.toList.drop 23 = dktJ15_newLength_1 := dk_seg dksJ15_newLength_0 23 rfl rfl
theorem dJ15_newLength_0 : decode cJ15_newLength 0 = .ok (.iload_n 0, 1) := dk_26 (dk_at dksJ15_newLength_0 0 rfl rfl)
theorem dJ15_newLength_1 : decode cJ15_newLength 1 = .ok (.iload_n 1, 1) := dk_27 (dk_at dksJ15_newLength_0 1 rfl rfl)
theorem dJ15_newLength_2 : decode cJ15_newLength 2 = .ok (.iload_n 2, 1) := dk_28 (dk_at dksJ15_newLength_0 2 rfl rfl)
theorem dJ15_newLength_3 : decode cJ15_newLength 3 = .ok (.invokestatic 194, 3) := dk_184 0 194 (dk_at dksJ15_newLength_0 3 rfl rfl)
theorem dJ15_newLength_6 : decode cJ15_newLength 6 = .ok (.iadd, 1) := dk_96 (dk_at dksJ15_newLength_0 6 rfl rfl)
theorem dJ15_newLength_7 : decode cJ15_newLength 7 = .ok (.istore_n 3, 1) := dk_62 (dk_at dksJ15_newLength_0 7 rfl rfl)
theorem dJ15_newLength_8 : decode cJ15_newLength 8 = .ok (.iconst 0, 1) := dk_3 (dk_at dksJ15_newLength_0 8 rfl rfl)
theorem dJ15_newLength_9 : decode cJ15_newLength 9 = .ok (.iload_n 3, 1) := dk_29 (dk_at dksJ15_newLength_0 9 rfl rfl)
theorem dJ15_newLength_10 : decode cJ15_newLength 10 = .ok (.if_icmp .ge 11, 3) := dk_162 0 11 (dk_at dksJ15_newLength_0 10 rfl rfl)
theorem dJ15_newLength_13 : decode cJ15_newLength 13 = .ok (.iload_n 3, 1) := dk_29 (dk_at dksJ15_newLength_0 13 rfl rfl)
theorem dJ15_newLength_14 : decode cJ15_newLength 14 = .ok (.ldc 200, 2) := dk_18 200 (dk_at dksJ15_newLength_0 14 rfl rfl)
theorem dJ15_newLength_16 : decode cJ15_newLength 16 = .ok (.if_icmp .gt 5, 3) := dk_163 0 5 (dk_at dksJ15_newLength_0 16 rfl rfl)
theorem dJ15_newLength_19 : decode cJ15_newLength 19 = .ok (.iload_n 3, 1) := dk_29 (dk_at dksJ15_newLength_0 19 rfl rfl)
theorem dJ15_newLength_20 : decode cJ15_newLength 20 = .ok (.ireturn, 1) := dk_172 (dk_at dksJ15_newLength_0 20 rfl rfl)
theorem dJ15_newLength_21 : decode cJ15_newLength 21 = .ok (.iload_n 0, 1) := dk_26 (dk_at dksJ15_newLength_0 21 rfl rfl)
theorem dJ15_newLength_22 : decode cJ15_newLength 22 = .ok (.iload_n 1, 1) := dk_27 (dk_at dksJ15_newLength_0 22 rfl rfl)
theorem dJ15_newLength_23 : decode cJ15_newLength 23 = .ok (.invokestatic 201, 3) := dk_184 0 201 (dk_at dksJ15_newLength_1 0 rfl rfl)
theorem dJ15_newLength_26 : decode cJ15_newLength 26 = .ok (.ireturn, 1) := dk_172 (dk_at dksJ15_newLength_1 3 rfl rfl)
abbrev MJ15_newLength : jjM := (yJ15_newLength, cJ15_newLength, 4, (Option.some Jvm.ClassFile.FieldType.int))
theorem npJ15_newLength : yJ15_newLength.cls ≠ "java/lang/invoke/MethodHandle" ∧ yJ15_newLength.cls ≠ "java/lang/invoke/VarHandle" ∧ (parseMethodDescriptor yJ15_newLength.desc).map (fun d => d.parameters.length) = some 3 := by decide +kernel
abbrev cJ15_hugeLength : ByteArray := prog_45_method_28_code
def yJ15_hugeLength : MethodName := ⟨RJ15, "hugeLength", "(II)I"⟩
def dkwJ15_hugeLength_2 : List UInt8 := [191, 28, 18, 200, 163, 0, 6, 18, 200, 172, 28, 172]
abbrev dktJ15_hugeLength_2 : List UInt8 := dkwJ15_hugeLength_2 ++ []
def dkwJ15_hugeLength_1 : List UInt8 := [26, 182, 0, 98, 18, 208, 182, 0, 94, 27, 182, 0, 98, 18, 210, 182, 0, 94, 182, 0, 101, 183, 0, 212]
abbrev dktJ15_hugeLength_1 : List UInt8 := dkwJ15_hugeLength_1 ++ dktJ15_hugeLength_2
def dkwJ15_hugeLength_0 : List UInt8 := [26, 27, 96, 61, 28, 156, 0, 44, 187, 0, 204, 89, 187, 0, 89, 89, 183, 0, 91, 18, 206, 182, 0, 94]
abbrev dktJ15_hugeLength_0 : List UInt8 := dkwJ15_hugeLength_0 ++ dktJ15_hugeLength_1
theorem dksJ15_hugeLength_0 : cJ15_hugeLength.data.toList.drop 0 = dktJ15_hugeLength_0 := by decide +kernel
theorem dksJ15_hugeLength_1 : cJ15_hugeLength.data.toList.drop 24 = dktJ15_hugeLength_1 := dk_seg dksJ15_hugeLength_0 24 rfl rfl
theorem dksJ15_hugeLength_2 : cJ15_hugeLength.data.toList.drop 48 = dktJ15_hugeLength_2 := dk_seg dksJ15_hugeLength_1 24 rfl rfl
theorem dJ15_hugeLength_0 : decode cJ15_hugeLength 0 = .ok (.iload_n 0, 1) := dk_26 (dk_at dksJ15_hugeLength_0 0 rfl rfl)
theorem dJ15_hugeLength_1 : decode cJ15_hugeLength 1 = .ok (.iload_n 1, 1) := dk_27 (dk_at dksJ15_hugeLength_0 1 rfl rfl)
theorem dJ15_hugeLength_2 : decode cJ15_hugeLength 2 = .ok (.iadd, 1) := dk_96 (dk_at dksJ15_hugeLength_0 2 rfl rfl)
theorem dJ15_hugeLength_3 : decode cJ15_hugeLength 3 = .ok (.istore_n 2, 1) := dk_61 (dk_at dksJ15_hugeLength_0 3 rfl rfl)
theorem dJ15_hugeLength_4 : decode cJ15_hugeLength 4 = .ok (.iload_n 2, 1) := dk_28 (dk_at dksJ15_hugeLength_0 4 rfl rfl)
theorem dJ15_hugeLength_5 : decode cJ15_hugeLength 5 = .ok (.ifCond .ge 44, 3) := dk_156 0 44 (dk_at dksJ15_hugeLength_0 5 rfl rfl)
theorem dJ15_hugeLength_8 : decode cJ15_hugeLength 8 = .ok (.new 204, 3) := dk_187 0 204 (dk_at dksJ15_hugeLength_0 8 rfl rfl)
theorem dJ15_hugeLength_11 : decode cJ15_hugeLength 11 = .ok (.dup, 1) := dk_89 (dk_at dksJ15_hugeLength_0 11 rfl rfl)
theorem dJ15_hugeLength_12 : decode cJ15_hugeLength 12 = .ok (.new 89, 3) := dk_187 0 89 (dk_at dksJ15_hugeLength_0 12 rfl rfl)
theorem dJ15_hugeLength_15 : decode cJ15_hugeLength 15 = .ok (.dup, 1) := dk_89 (dk_at dksJ15_hugeLength_0 15 rfl rfl)
theorem dJ15_hugeLength_16 : decode cJ15_hugeLength 16 = .ok (.invokespecial 91, 3) := dk_183 0 91 (dk_at dksJ15_hugeLength_0 16 rfl rfl)
theorem dJ15_hugeLength_19 : decode cJ15_hugeLength 19 = .ok (.ldc 206, 2) := dk_18 206 (dk_at dksJ15_hugeLength_0 19 rfl rfl)
theorem dJ15_hugeLength_21 : decode cJ15_hugeLength 21 = .ok (.invokevirtual 94, 3) := dk_182 0 94 (dk_at dksJ15_hugeLength_0 21 rfl rfl)
theorem dJ15_hugeLength_24 : decode cJ15_hugeLength 24 = .ok (.iload_n 0, 1) := dk_26 (dk_at dksJ15_hugeLength_1 0 rfl rfl)
theorem dJ15_hugeLength_25 : decode cJ15_hugeLength 25 = .ok (.invokevirtual 98, 3) := dk_182 0 98 (dk_at dksJ15_hugeLength_1 1 rfl rfl)
theorem dJ15_hugeLength_28 : decode cJ15_hugeLength 28 = .ok (.ldc 208, 2) := dk_18 208 (dk_at dksJ15_hugeLength_1 4 rfl rfl)
theorem dJ15_hugeLength_30 : decode cJ15_hugeLength 30 = .ok (.invokevirtual 94, 3) := dk_182 0 94 (dk_at dksJ15_hugeLength_1 6 rfl rfl)
theorem dJ15_hugeLength_33 : decode cJ15_hugeLength 33 = .ok (.iload_n 1, 1) := dk_27 (dk_at dksJ15_hugeLength_1 9 rfl rfl)
theorem dJ15_hugeLength_34 : decode cJ15_hugeLength 34 = .ok (.invokevirtual 98, 3) := dk_182 0 98 (dk_at dksJ15_hugeLength_1 10 rfl rfl)
theorem dJ15_hugeLength_37 : decode cJ15_hugeLength 37 = .ok (.ldc 210, 2) := dk_18 210 (dk_at dksJ15_hugeLength_1 13 rfl rfl)
theorem dJ15_hugeLength_39 : decode cJ15_hugeLength 39 = .ok (.invokevirtual 94, 3) := dk_182 0 94 (dk_at dksJ15_hugeLength_1 15 rfl rfl)
theorem dJ15_hugeLength_42 : decode cJ15_hugeLength 42 = .ok (.invokevirtual 101, 3) := dk_182 0 101 (dk_at dksJ15_hugeLength_1 18 rfl rfl)
theorem dJ15_hugeLength_45 : decode cJ15_hugeLength 45 = .ok (.invokespecial 212, 3) := dk_183 0 212 (dk_at dksJ15_hugeLength_1 21 rfl rfl)
theorem dJ15_hugeLength_48 : decode cJ15_hugeLength 48 = .ok (.athrow, 1) := dk_191 (dk_at dksJ15_hugeLength_2 0 rfl rfl)
theorem dJ15_hugeLength_49 : decode cJ15_hugeLength 49 = .ok (.iload_n 2, 1) := dk_28 (dk_at dksJ15_hugeLength_2 1 rfl rfl)
theorem dJ15_hugeLength_50 : decode cJ15_hugeLength 50 = .ok (.ldc 200, 2) := dk_18 200 (dk_at dksJ15_hugeLength_2 2 rfl rfl)
theorem dJ15_hugeLength_52 : decode cJ15_hugeLength 52 = .ok (.if_icmp .gt 6, 3) := dk_163 0 6 (dk_at dksJ15_hugeLength_2 4 rfl rfl)
theorem dJ15_hugeLength_55 : decode cJ15_hugeLength 55 = .ok (.ldc 200, 2) := dk_18 200 (dk_at dksJ15_hugeLength_2 7 rfl rfl)
theorem dJ15_hugeLength_57 : decode cJ15_hugeLength 57 = .ok (.ireturn, 1) := dk_172 (dk_at dksJ15_hugeLength_2 9 rfl rfl)
theorem dJ15_hugeLength_58 : decode cJ15_hugeLength 58 = .ok (.iload_n 2, 1) := dk_28 (dk_at dksJ15_hugeLength_2 10 rfl rfl)
theorem dJ15_hugeLength_59 : decode cJ15_hugeLength 59 = .ok (.ireturn, 1) := dk_172 (dk_at dksJ15_hugeLength_2 11 rfl rfl)
abbrev MJ15_hugeLength : jjM := (yJ15_hugeLength, cJ15_hugeLength, 3, (Option.some Jvm.ClassFile.FieldType.int))
theorem npJ15_hugeLength : yJ15_hugeLength.cls ≠ "java/lang/invoke/MethodHandle" ∧ yJ15_hugeLength.cls ≠ "java/lang/invoke/VarHandle" ∧ (parseMethodDescriptor yJ15_hugeLength.desc).map (fun d => d.parameters.length) = some 2 := by decide +kernel
abbrev cJ16_init : ByteArray := object_method_1_code
def yJ16_init : MethodName := ⟨RJ16, "<init>", "()V"⟩
theorem dJ16_init_0 : decode cJ16_init 0 = .ok (.return_, 1) := by decide +kernel
abbrev MJ16_init : jjM := (yJ16_init, cJ16_init, 1, (Option.none : Option Jvm.ClassFile.FieldType))
theorem npJ16_init : yJ16_init.cls ≠ "java/lang/invoke/MethodHandle" ∧ yJ16_init.cls ≠ "java/lang/invoke/VarHandle" ∧ (parseMethodDescriptor yJ16_init.desc).map (fun d => d.parameters.length) = some 0 := by decide +kernel
abbrev cJ2_checkIndex : ByteArray := prog_46_method_11_code
def yJ2_checkIndex : MethodName := ⟨RJ2, "checkIndex", "(IILjava/util/function/BiFunction;)I"⟩
def dkwJ2_checkIndex_0 : List UInt8 := [26, 155, 0, 8, 26, 27, 161, 0, 10, 44, 26, 27, 184, 0, 95, 191, 26, 172]
abbrev dktJ2_checkIndex_0 : List UInt8 := dkwJ2_checkIndex_0 ++ []
theorem dksJ2_checkIndex_0 : cJ2_checkIndex.data.toList.drop 0 = dktJ2_checkIndex_0 := by decide +kernel
theorem dJ2_checkIndex_0 : decode cJ2_checkIndex 0 = .ok (.iload_n 0, 1) := dk_26 (dk_at dksJ2_checkIndex_0 0 rfl rfl)
theorem dJ2_checkIndex_1 : decode cJ2_checkIndex 1 = .ok (.ifCond .lt 8, 3) := dk_155 0 8 (dk_at dksJ2_checkIndex_0 1 rfl rfl)
theorem dJ2_checkIndex_4 : decode cJ2_checkIndex 4 = .ok (.iload_n 0, 1) := dk_26 (dk_at dksJ2_checkIndex_0 4 rfl rfl)
theorem dJ2_checkIndex_5 : decode cJ2_checkIndex 5 = .ok (.iload_n 1, 1) := dk_27 (dk_at dksJ2_checkIndex_0 5 rfl rfl)
theorem dJ2_checkIndex_6 : decode cJ2_checkIndex 6 = .ok (.if_icmp .lt 10, 3) := dk_161 0 10 (dk_at dksJ2_checkIndex_0 6 rfl rfl)
theorem dJ2_checkIndex_9 : decode cJ2_checkIndex 9 = .ok (.aload_n 2, 1) := dk_44 (dk_at dksJ2_checkIndex_0 9 rfl rfl)
theorem dJ2_checkIndex_10 : decode cJ2_checkIndex 10 = .ok (.iload_n 0, 1) := dk_26 (dk_at dksJ2_checkIndex_0 10 rfl rfl)
theorem dJ2_checkIndex_11 : decode cJ2_checkIndex 11 = .ok (.iload_n 1, 1) := dk_27 (dk_at dksJ2_checkIndex_0 11 rfl rfl)
theorem dJ2_checkIndex_12 : decode cJ2_checkIndex 12 = .ok (.invokestatic 95, 3) := dk_184 0 95 (dk_at dksJ2_checkIndex_0 12 rfl rfl)
theorem dJ2_checkIndex_15 : decode cJ2_checkIndex 15 = .ok (.athrow, 1) := dk_191 (dk_at dksJ2_checkIndex_0 15 rfl rfl)
theorem dJ2_checkIndex_16 : decode cJ2_checkIndex 16 = .ok (.iload_n 0, 1) := dk_26 (dk_at dksJ2_checkIndex_0 16 rfl rfl)
theorem dJ2_checkIndex_17 : decode cJ2_checkIndex 17 = .ok (.ireturn, 1) := dk_172 (dk_at dksJ2_checkIndex_0 17 rfl rfl)
abbrev MJ2_checkIndex : jjM := (yJ2_checkIndex, cJ2_checkIndex, 3, (Option.some Jvm.ClassFile.FieldType.int))
theorem npJ2_checkIndex : yJ2_checkIndex.cls ≠ "java/lang/invoke/MethodHandle" ∧ yJ2_checkIndex.cls ≠ "java/lang/invoke/VarHandle" ∧ (parseMethodDescriptor yJ2_checkIndex.desc).map (fun d => d.parameters.length) = some 3 := by decide +kernel
abbrev cJ3_min : ByteArray := prog_26_method_70_code
def yJ3_min : MethodName := ⟨RJ3, "min", "(JJ)J"⟩
def dkwJ3_min_0 : List UInt8 := [30, 32, 148, 157, 0, 7, 30, 167, 0, 4, 32, 173]
abbrev dktJ3_min_0 : List UInt8 := dkwJ3_min_0 ++ []
theorem dksJ3_min_0 : cJ3_min.data.toList.drop 0 = dktJ3_min_0 := by decide +kernel
theorem dJ3_min_0 : decode cJ3_min 0 = .ok (.lload_n 0, 1) := dk_30 (dk_at dksJ3_min_0 0 rfl rfl)
theorem dJ3_min_1 : decode cJ3_min 1 = .ok (.lload_n 2, 1) := dk_32 (dk_at dksJ3_min_0 1 rfl rfl)
theorem dJ3_min_2 : decode cJ3_min 2 = .ok (.lcmp, 1) := dk_148 (dk_at dksJ3_min_0 2 rfl rfl)
theorem dJ3_min_3 : decode cJ3_min 3 = .ok (.ifCond .gt 7, 3) := dk_157 0 7 (dk_at dksJ3_min_0 3 rfl rfl)
theorem dJ3_min_6 : decode cJ3_min 6 = .ok (.lload_n 0, 1) := dk_30 (dk_at dksJ3_min_0 6 rfl rfl)
theorem dJ3_min_7 : decode cJ3_min 7 = .ok (.goto 4, 3) := dk_167 0 4 (dk_at dksJ3_min_0 7 rfl rfl)
theorem dJ3_min_10 : decode cJ3_min 10 = .ok (.lload_n 2, 1) := dk_32 (dk_at dksJ3_min_0 10 rfl rfl)
theorem dJ3_min_11 : decode cJ3_min 11 = .ok (.lreturn, 1) := dk_173 (dk_at dksJ3_min_0 11 rfl rfl)
abbrev MJ3_min : jjM := (yJ3_min, cJ3_min, 4, (Option.some Jvm.ClassFile.FieldType.long))
theorem npJ3_min : yJ3_min.cls ≠ "java/lang/invoke/MethodHandle" ∧ yJ3_min.cls ≠ "java/lang/invoke/VarHandle" ∧ (parseMethodDescriptor yJ3_min.desc).map (fun d => d.parameters.length) = some 2 := by decide +kernel
abbrev cJ3_max : ByteArray := prog_26_method_66_code
def yJ3_max : MethodName := ⟨RJ3, "max", "(JJ)J"⟩
def dkwJ3_max_0 : List UInt8 := [30, 32, 148, 155, 0, 7, 30, 167, 0, 4, 32, 173]
abbrev dktJ3_max_0 : List UInt8 := dkwJ3_max_0 ++ []
theorem dksJ3_max_0 : cJ3_max.data.toList.drop 0 = dktJ3_max_0 := by decide +kernel
theorem dJ3_max_0 : decode cJ3_max 0 = .ok (.lload_n 0, 1) := dk_30 (dk_at dksJ3_max_0 0 rfl rfl)
theorem dJ3_max_1 : decode cJ3_max 1 = .ok (.lload_n 2, 1) := dk_32 (dk_at dksJ3_max_0 1 rfl rfl)
theorem dJ3_max_2 : decode cJ3_max 2 = .ok (.lcmp, 1) := dk_148 (dk_at dksJ3_max_0 2 rfl rfl)
theorem dJ3_max_3 : decode cJ3_max 3 = .ok (.ifCond .lt 7, 3) := dk_155 0 7 (dk_at dksJ3_max_0 3 rfl rfl)
theorem dJ3_max_6 : decode cJ3_max 6 = .ok (.lload_n 0, 1) := dk_30 (dk_at dksJ3_max_0 6 rfl rfl)
theorem dJ3_max_7 : decode cJ3_max 7 = .ok (.goto 4, 3) := dk_167 0 4 (dk_at dksJ3_max_0 7 rfl rfl)
theorem dJ3_max_10 : decode cJ3_max 10 = .ok (.lload_n 2, 1) := dk_32 (dk_at dksJ3_max_0 10 rfl rfl)
theorem dJ3_max_11 : decode cJ3_max 11 = .ok (.lreturn, 1) := dk_173 (dk_at dksJ3_max_0 11 rfl rfl)
abbrev MJ3_max : jjM := (yJ3_max, cJ3_max, 4, (Option.some Jvm.ClassFile.FieldType.long))
theorem npJ3_max : yJ3_max.cls ≠ "java/lang/invoke/MethodHandle" ∧ yJ3_max.cls ≠ "java/lang/invoke/VarHandle" ∧ (parseMethodDescriptor yJ3_max.desc).map (fun d => d.parameters.length) = some 2 := by decide +kernel
abbrev cJ3_min_2 : ByteArray := prog_26_method_69_code
def yJ3_min_2 : MethodName := ⟨RJ3, "min", "(II)I"⟩
def dkwJ3_min_2_0 : List UInt8 := [26, 27, 163, 0, 7, 26, 167, 0, 4, 27, 172]
abbrev dktJ3_min_2_0 : List UInt8 := dkwJ3_min_2_0 ++ []
theorem dksJ3_min_2_0 : cJ3_min_2.data.toList.drop 0 = dktJ3_min_2_0 := by decide +kernel
theorem dJ3_min_2_0 : decode cJ3_min_2 0 = .ok (.iload_n 0, 1) := dk_26 (dk_at dksJ3_min_2_0 0 rfl rfl)
theorem dJ3_min_2_1 : decode cJ3_min_2 1 = .ok (.iload_n 1, 1) := dk_27 (dk_at dksJ3_min_2_0 1 rfl rfl)
theorem dJ3_min_2_2 : decode cJ3_min_2 2 = .ok (.if_icmp .gt 7, 3) := dk_163 0 7 (dk_at dksJ3_min_2_0 2 rfl rfl)
theorem dJ3_min_2_5 : decode cJ3_min_2 5 = .ok (.iload_n 0, 1) := dk_26 (dk_at dksJ3_min_2_0 5 rfl rfl)
theorem dJ3_min_2_6 : decode cJ3_min_2 6 = .ok (.goto 4, 3) := dk_167 0 4 (dk_at dksJ3_min_2_0 6 rfl rfl)
theorem dJ3_min_2_9 : decode cJ3_min_2 9 = .ok (.iload_n 1, 1) := dk_27 (dk_at dksJ3_min_2_0 9 rfl rfl)
theorem dJ3_min_2_10 : decode cJ3_min_2 10 = .ok (.ireturn, 1) := dk_172 (dk_at dksJ3_min_2_0 10 rfl rfl)
abbrev MJ3_min_2 : jjM := (yJ3_min_2, cJ3_min_2, 2, (Option.some Jvm.ClassFile.FieldType.int))
theorem npJ3_min_2 : yJ3_min_2.cls ≠ "java/lang/invoke/MethodHandle" ∧ yJ3_min_2.cls ≠ "java/lang/invoke/VarHandle" ∧ (parseMethodDescriptor yJ3_min_2.desc).map (fun d => d.parameters.length) = some 2 := by decide +kernel
abbrev cJ3_max_2 : ByteArray := prog_26_method_65_code
def yJ3_max_2 : MethodName := ⟨RJ3, "max", "(II)I"⟩
def dkwJ3_max_2_0 : List UInt8 := [26, 27, 161, 0, 7, 26, 167, 0, 4, 27, 172]
abbrev dktJ3_max_2_0 : List UInt8 := dkwJ3_max_2_0 ++ []
theorem dksJ3_max_2_0 : cJ3_max_2.data.toList.drop 0 = dktJ3_max_2_0 := by decide +kernel
theorem dJ3_max_2_0 : decode cJ3_max_2 0 = .ok (.iload_n 0, 1) := dk_26 (dk_at dksJ3_max_2_0 0 rfl rfl)
theorem dJ3_max_2_1 : decode cJ3_max_2 1 = .ok (.iload_n 1, 1) := dk_27 (dk_at dksJ3_max_2_0 1 rfl rfl)
theorem dJ3_max_2_2 : decode cJ3_max_2 2 = .ok (.if_icmp .lt 7, 3) := dk_161 0 7 (dk_at dksJ3_max_2_0 2 rfl rfl)
theorem dJ3_max_2_5 : decode cJ3_max_2 5 = .ok (.iload_n 0, 1) := dk_26 (dk_at dksJ3_max_2_0 5 rfl rfl)
theorem dJ3_max_2_6 : decode cJ3_max_2 6 = .ok (.goto 4, 3) := dk_167 0 4 (dk_at dksJ3_max_2_0 6 rfl rfl)
theorem dJ3_max_2_9 : decode cJ3_max_2 9 = .ok (.iload_n 1, 1) := dk_27 (dk_at dksJ3_max_2_0 9 rfl rfl)
theorem dJ3_max_2_10 : decode cJ3_max_2 10 = .ok (.ireturn, 1) := dk_172 (dk_at dksJ3_max_2_0 10 rfl rfl)
abbrev MJ3_max_2 : jjM := (yJ3_max_2, cJ3_max_2, 2, (Option.some Jvm.ClassFile.FieldType.int))
theorem npJ3_max_2 : yJ3_max_2.cls ≠ "java/lang/invoke/MethodHandle" ∧ yJ3_max_2.cls ≠ "java/lang/invoke/VarHandle" ∧ (parseMethodDescriptor yJ3_max_2.desc).map (fun d => d.parameters.length) = some 2 := by decide +kernel
abbrev cJ4_init : ByteArray := prog_36_method_1_code
def yJ4_init : MethodName := ⟨RJ4, "<init>", "()V"⟩
theorem dJ4_init_0 : decode cJ4_init 0 = .ok (.aload_n 0, 1) := by decide +kernel
theorem dJ4_init_1 : decode cJ4_init 1 = .ok (.invokespecial 1, 3) := by decide +kernel
theorem dJ4_init_4 : decode cJ4_init 4 = .ok (.return_, 1) := by decide +kernel
abbrev MJ4_init : jjM := (yJ4_init, cJ4_init, 1, (Option.none : Option Jvm.ClassFile.FieldType))
theorem npJ4_init : yJ4_init.cls ≠ "java/lang/invoke/MethodHandle" ∧ yJ4_init.cls ≠ "java/lang/invoke/VarHandle" ∧ (parseMethodDescriptor yJ4_init.desc).map (fun d => d.parameters.length) = some 0 := by decide +kernel
abbrev cJ5_init : ByteArray := prog_37_method_1_code
def yJ5_init : MethodName := ⟨RJ5, "<init>", "()V"⟩
def dkwJ5_init_0 : List UInt8 := [42, 183, 0, 1, 42, 3, 181, 0, 7, 177]
abbrev dktJ5_init_0 : List UInt8 := dkwJ5_init_0 ++ []
theorem dksJ5_init_0 : cJ5_init.data.toList.drop 0 = dktJ5_init_0 := by decide +kernel
theorem dJ5_init_0 : decode cJ5_init 0 = .ok (.aload_n 0, 1) := dk_42 (dk_at dksJ5_init_0 0 rfl rfl)
theorem dJ5_init_1 : decode cJ5_init 1 = .ok (.invokespecial 1, 3) := dk_183 0 1 (dk_at dksJ5_init_0 1 rfl rfl)
theorem dJ5_init_4 : decode cJ5_init 4 = .ok (.aload_n 0, 1) := dk_42 (dk_at dksJ5_init_0 4 rfl rfl)
theorem dJ5_init_5 : decode cJ5_init 5 = .ok (.iconst 0, 1) := dk_3 (dk_at dksJ5_init_0 5 rfl rfl)
theorem dJ5_init_6 : decode cJ5_init 6 = .ok (.putfield 7, 3) := dk_181 0 7 (dk_at dksJ5_init_0 6 rfl rfl)
theorem dJ5_init_9 : decode cJ5_init 9 = .ok (.return_, 1) := dk_177 (dk_at dksJ5_init_0 9 rfl rfl)
abbrev MJ5_init : jjM := (yJ5_init, cJ5_init, 1, (Option.none : Option Jvm.ClassFile.FieldType))
theorem npJ5_init : yJ5_init.cls ≠ "java/lang/invoke/MethodHandle" ∧ yJ5_init.cls ≠ "java/lang/invoke/VarHandle" ∧ (parseMethodDescriptor yJ5_init.desc).map (fun d => d.parameters.length) = some 0 := by decide +kernel
abbrev cJ6_size : ByteArray := prog_38_method_8_code
def yJ6_size : MethodName := ⟨RJ6, "size", "()I"⟩
theorem dJ6_size_0 : decode cJ6_size 0 = .ok (.aload_n 0, 1) := by decide +kernel
theorem dJ6_size_1 : decode cJ6_size 1 = .ok (.getfield 48, 3) := by decide +kernel
theorem dJ6_size_4 : decode cJ6_size 4 = .ok (.ireturn, 1) := by decide +kernel
abbrev MJ6_size : jjM := (yJ6_size, cJ6_size, 1, (Option.some Jvm.ClassFile.FieldType.int))
theorem npJ6_size : yJ6_size.cls ≠ "java/lang/invoke/MethodHandle" ∧ yJ6_size.cls ≠ "java/lang/invoke/VarHandle" ∧ (parseMethodDescriptor yJ6_size.desc).map (fun d => d.parameters.length) = some 0 := by decide +kernel
abbrev cJ6_get : ByteArray := prog_38_method_20_code
def yJ6_get : MethodName := ⟨RJ6, "get", "(I)Ljava/lang/Object;"⟩
def dkwJ6_get_0 : List UInt8 := [27, 42, 180, 0, 48, 184, 0, 118, 87, 42, 27, 182, 0, 123, 176]
abbrev dktJ6_get_0 : List UInt8 := dkwJ6_get_0 ++ []
theorem dksJ6_get_0 : cJ6_get.data.toList.drop 0 = dktJ6_get_0 := by decide +kernel
theorem dJ6_get_0 : decode cJ6_get 0 = .ok (.iload_n 1, 1) := dk_27 (dk_at dksJ6_get_0 0 rfl rfl)
theorem dJ6_get_1 : decode cJ6_get 1 = .ok (.aload_n 0, 1) := dk_42 (dk_at dksJ6_get_0 1 rfl rfl)
theorem dJ6_get_2 : decode cJ6_get 2 = .ok (.getfield 48, 3) := dk_180 0 48 (dk_at dksJ6_get_0 2 rfl rfl)
theorem dJ6_get_5 : decode cJ6_get 5 = .ok (.invokestatic 118, 3) := dk_184 0 118 (dk_at dksJ6_get_0 5 rfl rfl)
theorem dJ6_get_8 : decode cJ6_get 8 = .ok (.pop, 1) := dk_87 (dk_at dksJ6_get_0 8 rfl rfl)
theorem dJ6_get_9 : decode cJ6_get 9 = .ok (.aload_n 0, 1) := dk_42 (dk_at dksJ6_get_0 9 rfl rfl)
theorem dJ6_get_10 : decode cJ6_get 10 = .ok (.iload_n 1, 1) := dk_27 (dk_at dksJ6_get_0 10 rfl rfl)
theorem dJ6_get_11 : decode cJ6_get 11 = .ok (.invokevirtual 123, 3) := dk_182 0 123 (dk_at dksJ6_get_0 11 rfl rfl)
theorem dJ6_get_14 : decode cJ6_get 14 = .ok (.areturn, 1) := dk_176 (dk_at dksJ6_get_0 14 rfl rfl)
abbrev MJ6_get : jjM := (yJ6_get, cJ6_get, 2, (Option.some (Jvm.ClassFile.FieldType.object "java/lang/Object")))
theorem npJ6_get : yJ6_get.cls ≠ "java/lang/invoke/MethodHandle" ∧ yJ6_get.cls ≠ "java/lang/invoke/VarHandle" ∧ (parseMethodDescriptor yJ6_get.desc).map (fun d => d.parameters.length) = some 1 := by decide +kernel
abbrev cJ6_elementData : ByteArray := prog_38_method_18_code
def yJ6_elementData : MethodName := ⟨RJ6, "elementData", "(I)Ljava/lang/Object;"⟩
def dkwJ6_elementData_0 : List UInt8 := [42, 180, 0, 9, 27, 50, 176]
abbrev dktJ6_elementData_0 : List UInt8 := dkwJ6_elementData_0 ++ []
theorem dksJ6_elementData_0 : cJ6_elementData.data.toList.drop 0 = dktJ6_elementData_0 := by decide +kernel
theorem dJ6_elementData_0 : decode cJ6_elementData 0 = .ok (.aload_n 0, 1) := dk_42 (dk_at dksJ6_elementData_0 0 rfl rfl)
theorem dJ6_elementData_1 : decode cJ6_elementData 1 = .ok (.getfield 9, 3) := dk_180 0 9 (dk_at dksJ6_elementData_0 1 rfl rfl)
theorem dJ6_elementData_4 : decode cJ6_elementData 4 = .ok (.iload_n 1, 1) := dk_27 (dk_at dksJ6_elementData_0 4 rfl rfl)
theorem dJ6_elementData_5 : decode cJ6_elementData 5 = .ok (.aaload, 1) := dk_50 (dk_at dksJ6_elementData_0 5 rfl rfl)
theorem dJ6_elementData_6 : decode cJ6_elementData 6 = .ok (.areturn, 1) := dk_176 (dk_at dksJ6_elementData_0 6 rfl rfl)
abbrev MJ6_elementData : jjM := (yJ6_elementData, cJ6_elementData, 2, (Option.some (Jvm.ClassFile.FieldType.object "java/lang/Object")))
theorem npJ6_elementData : yJ6_elementData.cls ≠ "java/lang/invoke/MethodHandle" ∧ yJ6_elementData.cls ≠ "java/lang/invoke/VarHandle" ∧ (parseMethodDescriptor yJ6_elementData.desc).map (fun d => d.parameters.length) = some 1 := by decide +kernel
abbrev cJ6_init : ByteArray := prog_38_method_2_code
def yJ6_init : MethodName := ⟨RJ6, "<init>", "()V"⟩
def dkwJ6_init_0 : List UInt8 := [42, 183, 0, 1, 42, 178, 0, 39, 181, 0, 9, 177]
abbrev dktJ6_init_0 : List UInt8 := dkwJ6_init_0 ++ []
theorem dksJ6_init_0 : cJ6_init.data.toList.drop 0 = dktJ6_init_0 := by decide +kernel
theorem dJ6_init_0 : decode cJ6_init 0 = .ok (.aload_n 0, 1) := dk_42 (dk_at dksJ6_init_0 0 rfl rfl)
theorem dJ6_init_1 : decode cJ6_init 1 = .ok (.invokespecial 1, 3) := dk_183 0 1 (dk_at dksJ6_init_0 1 rfl rfl)
theorem dJ6_init_4 : decode cJ6_init 4 = .ok (.aload_n 0, 1) := dk_42 (dk_at dksJ6_init_0 4 rfl rfl)
theorem dJ6_init_5 : decode cJ6_init 5 = .ok (.getstatic 39, 3) := dk_178 0 39 (dk_at dksJ6_init_0 5 rfl rfl)
theorem dJ6_init_8 : decode cJ6_init 8 = .ok (.putfield 9, 3) := dk_181 0 9 (dk_at dksJ6_init_0 8 rfl rfl)
theorem dJ6_init_11 : decode cJ6_init 11 = .ok (.return_, 1) := dk_177 (dk_at dksJ6_init_0 11 rfl rfl)
abbrev MJ6_init : jjM := (yJ6_init, cJ6_init, 1, (Option.none : Option Jvm.ClassFile.FieldType))
theorem npJ6_init : yJ6_init.cls ≠ "java/lang/invoke/MethodHandle" ∧ yJ6_init.cls ≠ "java/lang/invoke/VarHandle" ∧ (parseMethodDescriptor yJ6_init.desc).map (fun d => d.parameters.length) = some 0 := by decide +kernel
abbrev cJ6_add : ByteArray := prog_38_method_25_code
def yJ6_add : MethodName := ⟨RJ6, "add", "(Ljava/lang/Object;)Z"⟩
def dkwJ6_add_1 : List UInt8 := [172]
abbrev dktJ6_add_1 : List UInt8 := dkwJ6_add_1 ++ []
def dkwJ6_add_0 : List UInt8 := [42, 89, 180, 0, 63, 4, 96, 181, 0, 63, 42, 43, 42, 180, 0, 9, 42, 180, 0, 48, 182, 0, 131, 4]
abbrev dktJ6_add_0 : List UInt8 := dkwJ6_add_0 ++ dktJ6_add_1
theorem dksJ6_add_0 : cJ6_add.data.toList.drop 0 = dktJ6_add_0 := by decide +kernel
theorem dksJ6_add_1 : cJ6_add.data.toList.drop 24 = dktJ6_add_1 := dk_seg dksJ6_add_0 24 rfl rfl
theorem dJ6_add_0 : decode cJ6_add 0 = .ok (.aload_n 0, 1) := dk_42 (dk_at dksJ6_add_0 0 rfl rfl)
theorem dJ6_add_1 : decode cJ6_add 1 = .ok (.dup, 1) := dk_89 (dk_at dksJ6_add_0 1 rfl rfl)
theorem dJ6_add_2 : decode cJ6_add 2 = .ok (.getfield 63, 3) := dk_180 0 63 (dk_at dksJ6_add_0 2 rfl rfl)
theorem dJ6_add_5 : decode cJ6_add 5 = .ok (.iconst 1, 1) := dk_4 (dk_at dksJ6_add_0 5 rfl rfl)
theorem dJ6_add_6 : decode cJ6_add 6 = .ok (.iadd, 1) := dk_96 (dk_at dksJ6_add_0 6 rfl rfl)
theorem dJ6_add_7 : decode cJ6_add 7 = .ok (.putfield 63, 3) := dk_181 0 63 (dk_at dksJ6_add_0 7 rfl rfl)
theorem dJ6_add_10 : decode cJ6_add 10 = .ok (.aload_n 0, 1) := dk_42 (dk_at dksJ6_add_0 10 rfl rfl)
theorem dJ6_add_11 : decode cJ6_add 11 = .ok (.aload_n 1, 1) := dk_43 (dk_at dksJ6_add_0 11 rfl rfl)
theorem dJ6_add_12 : decode cJ6_add 12 = .ok (.aload_n 0, 1) := dk_42 (dk_at dksJ6_add_0 12 rfl rfl)
theorem dJ6_add_13 : decode cJ6_add 13 = .ok (.getfield 9, 3) := dk_180 0 9 (dk_at dksJ6_add_0 13 rfl rfl)
theorem dJ6_add_16 : decode cJ6_add 16 = .ok (.aload_n 0, 1) := dk_42 (dk_at dksJ6_add_0 16 rfl rfl)
theorem dJ6_add_17 : decode cJ6_add 17 = .ok (.getfield 48, 3) := dk_180 0 48 (dk_at dksJ6_add_0 17 rfl rfl)
theorem dJ6_add_20 : decode cJ6_add 20 = .ok (.invokevirtual 131, 3) := dk_182 0 131 (dk_at dksJ6_add_0 20 rfl rfl)
theorem dJ6_add_23 : decode cJ6_add 23 = .ok (.iconst 1, 1) := dk_4 (dk_at dksJ6_add_0 23 rfl rfl)
theorem dJ6_add_24 : decode cJ6_add 24 = .ok (.ireturn, 1) := dk_172 (dk_at dksJ6_add_1 0 rfl rfl)
abbrev MJ6_add : jjM := (yJ6_add, cJ6_add, 2, (Option.some Jvm.ClassFile.FieldType.boolean))
theorem npJ6_add : yJ6_add.cls ≠ "java/lang/invoke/MethodHandle" ∧ yJ6_add.cls ≠ "java/lang/invoke/VarHandle" ∧ (parseMethodDescriptor yJ6_add.desc).map (fun d => d.parameters.length) = some 1 := by decide +kernel
abbrev cJ6_add_2 : ByteArray := prog_38_method_24_code
def yJ6_add_2 : MethodName := ⟨RJ6, "add", "(Ljava/lang/Object;[Ljava/lang/Object;I)V"⟩
def dkwJ6_add_2_0 : List UInt8 := [29, 44, 190, 160, 0, 8, 42, 182, 0, 129, 77, 44, 29, 43, 83, 42, 29, 4, 96, 181, 0, 48, 177]
abbrev dktJ6_add_2_0 : List UInt8 := dkwJ6_add_2_0 ++ []
theorem dksJ6_add_2_0 : cJ6_add_2.data.toList.drop 0 = dktJ6_add_2_0 := by decide +kernel
theorem dJ6_add_2_0 : decode cJ6_add_2 0 = .ok (.iload_n 3, 1) := dk_29 (dk_at dksJ6_add_2_0 0 rfl rfl)
theorem dJ6_add_2_1 : decode cJ6_add_2 1 = .ok (.aload_n 2, 1) := dk_44 (dk_at dksJ6_add_2_0 1 rfl rfl)
theorem dJ6_add_2_2 : decode cJ6_add_2 2 = .ok (.arraylength, 1) := dk_190 (dk_at dksJ6_add_2_0 2 rfl rfl)
theorem dJ6_add_2_3 : decode cJ6_add_2 3 = .ok (.if_icmp .ne 8, 3) := dk_160 0 8 (dk_at dksJ6_add_2_0 3 rfl rfl)
theorem dJ6_add_2_6 : decode cJ6_add_2 6 = .ok (.aload_n 0, 1) := dk_42 (dk_at dksJ6_add_2_0 6 rfl rfl)
theorem dJ6_add_2_7 : decode cJ6_add_2 7 = .ok (.invokevirtual 129, 3) := dk_182 0 129 (dk_at dksJ6_add_2_0 7 rfl rfl)
theorem dJ6_add_2_10 : decode cJ6_add_2 10 = .ok (.astore_n 2, 1) := dk_77 (dk_at dksJ6_add_2_0 10 rfl rfl)
theorem dJ6_add_2_11 : decode cJ6_add_2 11 = .ok (.aload_n 2, 1) := dk_44 (dk_at dksJ6_add_2_0 11 rfl rfl)
theorem dJ6_add_2_12 : decode cJ6_add_2 12 = .ok (.iload_n 3, 1) := dk_29 (dk_at dksJ6_add_2_0 12 rfl rfl)
theorem dJ6_add_2_13 : decode cJ6_add_2 13 = .ok (.aload_n 1, 1) := dk_43 (dk_at dksJ6_add_2_0 13 rfl rfl)
theorem dJ6_add_2_14 : decode cJ6_add_2 14 = .ok (.aastore, 1) := dk_83 (dk_at dksJ6_add_2_0 14 rfl rfl)
theorem dJ6_add_2_15 : decode cJ6_add_2 15 = .ok (.aload_n 0, 1) := dk_42 (dk_at dksJ6_add_2_0 15 rfl rfl)
theorem dJ6_add_2_16 : decode cJ6_add_2 16 = .ok (.iload_n 3, 1) := dk_29 (dk_at dksJ6_add_2_0 16 rfl rfl)
theorem dJ6_add_2_17 : decode cJ6_add_2 17 = .ok (.iconst 1, 1) := dk_4 (dk_at dksJ6_add_2_0 17 rfl rfl)
theorem dJ6_add_2_18 : decode cJ6_add_2 18 = .ok (.iadd, 1) := dk_96 (dk_at dksJ6_add_2_0 18 rfl rfl)
theorem dJ6_add_2_19 : decode cJ6_add_2 19 = .ok (.putfield 48, 3) := dk_181 0 48 (dk_at dksJ6_add_2_0 19 rfl rfl)
theorem dJ6_add_2_22 : decode cJ6_add_2 22 = .ok (.return_, 1) := dk_177 (dk_at dksJ6_add_2_0 22 rfl rfl)
abbrev MJ6_add_2 : jjM := (yJ6_add_2, cJ6_add_2, 4, (Option.none : Option Jvm.ClassFile.FieldType))
theorem npJ6_add_2 : yJ6_add_2.cls ≠ "java/lang/invoke/MethodHandle" ∧ yJ6_add_2.cls ≠ "java/lang/invoke/VarHandle" ∧ (parseMethodDescriptor yJ6_add_2.desc).map (fun d => d.parameters.length) = some 3 := by decide +kernel
abbrev cJ6_grow : ByteArray := prog_38_method_7_code
def yJ6_grow : MethodName := ⟨RJ6, "grow", "()[Ljava/lang/Object;"⟩
def dkwJ6_grow_0 : List UInt8 := [42, 42, 180, 0, 48, 4, 96, 182, 0, 69, 176]
abbrev dktJ6_grow_0 : List UInt8 := dkwJ6_grow_0 ++ []
theorem dksJ6_grow_0 : cJ6_grow.data.toList.drop 0 = dktJ6_grow_0 := by decide +kernel
theorem dJ6_grow_0 : decode cJ6_grow 0 = .ok (.aload_n 0, 1) := dk_42 (dk_at dksJ6_grow_0 0 rfl rfl)
theorem dJ6_grow_1 : decode cJ6_grow 1 = .ok (.aload_n 0, 1) := dk_42 (dk_at dksJ6_grow_0 1 rfl rfl)
theorem dJ6_grow_2 : decode cJ6_grow 2 = .ok (.getfield 48, 3) := dk_180 0 48 (dk_at dksJ6_grow_0 2 rfl rfl)
theorem dJ6_grow_5 : decode cJ6_grow 5 = .ok (.iconst 1, 1) := dk_4 (dk_at dksJ6_grow_0 5 rfl rfl)
theorem dJ6_grow_6 : decode cJ6_grow 6 = .ok (.iadd, 1) := dk_96 (dk_at dksJ6_grow_0 6 rfl rfl)
theorem dJ6_grow_7 : decode cJ6_grow 7 = .ok (.invokevirtual 69, 3) := dk_182 0 69 (dk_at dksJ6_grow_0 7 rfl rfl)
theorem dJ6_grow_10 : decode cJ6_grow 10 = .ok (.areturn, 1) := dk_176 (dk_at dksJ6_grow_0 10 rfl rfl)
abbrev MJ6_grow : jjM := (yJ6_grow, cJ6_grow, 1, (Option.some (Jvm.ClassFile.FieldType.array (Jvm.ClassFile.FieldType.object "java/lang/Object"))))
theorem npJ6_grow : yJ6_grow.cls ≠ "java/lang/invoke/MethodHandle" ∧ yJ6_grow.cls ≠ "java/lang/invoke/VarHandle" ∧ (parseMethodDescriptor yJ6_grow.desc).map (fun d => d.parameters.length) = some 0 := by decide +kernel
abbrev cJ6_grow_2 : ByteArray := prog_38_method_6_code
def yJ6_grow_2 : MethodName := ⟨RJ6, "grow", "(I)[Ljava/lang/Object;"⟩
def dkwJ6_grow_2_2 : List UInt8 := [27, 184, 0, 79, 189, 0, 7, 90, 181, 0, 9, 176]
abbrev dktJ6_grow_2_2 : List UInt8 := dkwJ6_grow_2_2 ++ []
def dkwJ6_grow_2_1 : List UInt8 := [28, 4, 122, 184, 0, 73, 62, 42, 42, 180, 0, 9, 29, 184, 0, 66, 90, 181, 0, 9, 176, 42, 16, 10]
abbrev dktJ6_grow_2_1 : List UInt8 := dkwJ6_grow_2_1 ++ dktJ6_grow_2_2
def dkwJ6_grow_2_0 : List UInt8 := [42, 180, 0, 9, 190, 61, 28, 157, 0, 13, 42, 180, 0, 9, 178, 0, 39, 165, 0, 28, 28, 27, 28, 100]
abbrev dktJ6_grow_2_0 : List UInt8 := dkwJ6_grow_2_0 ++ dktJ6_grow_2_1
theorem dksJ6_grow_2_0 : cJ6_grow_2.data.toList.drop 0 = dktJ6_grow_2_0 := by decide +kernel
theorem dksJ6_grow_2_1 : cJ6_grow_2.data.toList.drop 24 = dktJ6_grow_2_1 := dk_seg dksJ6_grow_2_0 24 rfl rfl
theorem dksJ6_grow_2_2 : cJ6_grow_2.data.toList.drop 48 = dktJ6_grow_2_2 := dk_seg dksJ6_grow_2_1 24 rfl rfl
theorem dJ6_grow_2_0 : decode cJ6_grow_2 0 = .ok (.aload_n 0, 1) := dk_42 (dk_at dksJ6_grow_2_0 0 rfl rfl)
theorem dJ6_grow_2_1 : decode cJ6_grow_2 1 = .ok (.getfield 9, 3) := dk_180 0 9 (dk_at dksJ6_grow_2_0 1 rfl rfl)
theorem dJ6_grow_2_4 : decode cJ6_grow_2 4 = .ok (.arraylength, 1) := dk_190 (dk_at dksJ6_grow_2_0 4 rfl rfl)
theorem dJ6_grow_2_5 : decode cJ6_grow_2 5 = .ok (.istore_n 2, 1) := dk_61 (dk_at dksJ6_grow_2_0 5 rfl rfl)
theorem dJ6_grow_2_6 : decode cJ6_grow_2 6 = .ok (.iload_n 2, 1) := dk_28 (dk_at dksJ6_grow_2_0 6 rfl rfl)
theorem dJ6_grow_2_7 : decode cJ6_grow_2 7 = .ok (.ifCond .gt 13, 3) := dk_157 0 13 (dk_at dksJ6_grow_2_0 7 rfl rfl)
theorem dJ6_grow_2_10 : decode cJ6_grow_2 10 = .ok (.aload_n 0, 1) := dk_42 (dk_at dksJ6_grow_2_0 10 rfl rfl)
theorem dJ6_grow_2_11 : decode cJ6_grow_2 11 = .ok (.getfield 9, 3) := dk_180 0 9 (dk_at dksJ6_grow_2_0 11 rfl rfl)
theorem dJ6_grow_2_14 : decode cJ6_grow_2 14 = .ok (.getstatic 39, 3) := dk_178 0 39 (dk_at dksJ6_grow_2_0 14 rfl rfl)
theorem dJ6_grow_2_17 : decode cJ6_grow_2 17 = .ok (.if_acmp .eq 28, 3) := dk_165 0 28 (dk_at dksJ6_grow_2_0 17 rfl rfl)
theorem dJ6_grow_2_20 : decode cJ6_grow_2 20 = .ok (.iload_n 2, 1) := dk_28 (dk_at dksJ6_grow_2_0 20 rfl rfl)
theorem dJ6_grow_2_21 : decode cJ6_grow_2 21 = .ok (.iload_n 1, 1) := dk_27 (dk_at dksJ6_grow_2_0 21 rfl rfl)
theorem dJ6_grow_2_22 : decode cJ6_grow_2 22 = .ok (.iload_n 2, 1) := dk_28 (dk_at dksJ6_grow_2_0 22 rfl rfl)
theorem dJ6_grow_2_23 : decode cJ6_grow_2 23 = .ok (.isub, 1) := dk_100 (dk_at dksJ6_grow_2_0 23 rfl rfl)
theorem dJ6_grow_2_24 : decode cJ6_grow_2 24 = .ok (.iload_n 2, 1) := dk_28 (dk_at dksJ6_grow_2_1 0 rfl rfl)
theorem dJ6_grow_2_25 : decode cJ6_grow_2 25 = .ok (.iconst 1, 1) := dk_4 (dk_at dksJ6_grow_2_1 1 rfl rfl)
theorem dJ6_grow_2_26 : decode cJ6_grow_2 26 = .ok (.ishr, 1) := dk_122 (dk_at dksJ6_grow_2_1 2 rfl rfl)
theorem dJ6_grow_2_27 : decode cJ6_grow_2 27 = .ok (.invokestatic 73, 3) := dk_184 0 73 (dk_at dksJ6_grow_2_1 3 rfl rfl)
theorem dJ6_grow_2_30 : decode cJ6_grow_2 30 = .ok (.istore_n 3, 1) := dk_62 (dk_at dksJ6_grow_2_1 6 rfl rfl)
theorem dJ6_grow_2_31 : decode cJ6_grow_2 31 = .ok (.aload_n 0, 1) := dk_42 (dk_at dksJ6_grow_2_1 7 rfl rfl)
theorem dJ6_grow_2_32 : decode cJ6_grow_2 32 = .ok (.aload_n 0, 1) := dk_42 (dk_at dksJ6_grow_2_1 8 rfl rfl)
theorem dJ6_grow_2_33 : decode cJ6_grow_2 33 = .ok (.getfield 9, 3) := dk_180 0 9 (dk_at dksJ6_grow_2_1 9 rfl rfl)
theorem dJ6_grow_2_36 : decode cJ6_grow_2 36 = .ok (.iload_n 3, 1) := dk_29 (dk_at dksJ6_grow_2_1 12 rfl rfl)
theorem dJ6_grow_2_37 : decode cJ6_grow_2 37 = .ok (.invokestatic 66, 3) := dk_184 0 66 (dk_at dksJ6_grow_2_1 13 rfl rfl)
theorem dJ6_grow_2_40 : decode cJ6_grow_2 40 = .ok (.dup_x1, 1) := dk_90 (dk_at dksJ6_grow_2_1 16 rfl rfl)
theorem dJ6_grow_2_41 : decode cJ6_grow_2 41 = .ok (.putfield 9, 3) := dk_181 0 9 (dk_at dksJ6_grow_2_1 17 rfl rfl)
theorem dJ6_grow_2_44 : decode cJ6_grow_2 44 = .ok (.areturn, 1) := dk_176 (dk_at dksJ6_grow_2_1 20 rfl rfl)
theorem dJ6_grow_2_45 : decode cJ6_grow_2 45 = .ok (.aload_n 0, 1) := dk_42 (dk_at dksJ6_grow_2_1 21 rfl rfl)
theorem dJ6_grow_2_46 : decode cJ6_grow_2 46 = .ok (.bipush 10, 2) := dk_16 10 (dk_at dksJ6_grow_2_1 22 rfl rfl)
theorem dJ6_grow_2_48 : decode cJ6_grow_2 48 = .ok (.iload_n 1, 1) := dk_27 (dk_at dksJ6_grow_2_2 0 rfl rfl)
theorem dJ6_grow_2_49 : decode cJ6_grow_2 49 = .ok (.invokestatic 79, 3) := dk_184 0 79 (dk_at dksJ6_grow_2_2 1 rfl rfl)
theorem dJ6_grow_2_52 : decode cJ6_grow_2 52 = .ok (.anewarray 7, 3) := dk_189 0 7 (dk_at dksJ6_grow_2_2 4 rfl rfl)
theorem dJ6_grow_2_55 : decode cJ6_grow_2 55 = .ok (.dup_x1, 1) := dk_90 (dk_at dksJ6_grow_2_2 7 rfl rfl)
theorem dJ6_grow_2_56 : decode cJ6_grow_2 56 = .ok (.putfield 9, 3) := dk_181 0 9 (dk_at dksJ6_grow_2_2 8 rfl rfl)
theorem dJ6_grow_2_59 : decode cJ6_grow_2 59 = .ok (.areturn, 1) := dk_176 (dk_at dksJ6_grow_2_2 11 rfl rfl)
abbrev MJ6_grow_2 : jjM := (yJ6_grow_2, cJ6_grow_2, 4, (Option.some (Jvm.ClassFile.FieldType.array (Jvm.ClassFile.FieldType.object "java/lang/Object"))))
theorem npJ6_grow_2 : yJ6_grow_2.cls ≠ "java/lang/invoke/MethodHandle" ∧ yJ6_grow_2.cls ≠ "java/lang/invoke/VarHandle" ∧ (parseMethodDescriptor yJ6_grow_2.desc).map (fun d => d.parameters.length) = some 1 := by decide +kernel
abbrev cJ6_isEmpty : ByteArray := prog_38_method_9_code
def yJ6_isEmpty : MethodName := ⟨RJ6, "isEmpty", "()Z"⟩
def dkwJ6_isEmpty_0 : List UInt8 := [42, 180, 0, 48, 154, 0, 7, 4, 167, 0, 4, 3, 172]
abbrev dktJ6_isEmpty_0 : List UInt8 := dkwJ6_isEmpty_0 ++ []
theorem dksJ6_isEmpty_0 : cJ6_isEmpty.data.toList.drop 0 = dktJ6_isEmpty_0 := by decide +kernel
theorem dJ6_isEmpty_0 : decode cJ6_isEmpty 0 = .ok (.aload_n 0, 1) := dk_42 (dk_at dksJ6_isEmpty_0 0 rfl rfl)
theorem dJ6_isEmpty_1 : decode cJ6_isEmpty 1 = .ok (.getfield 48, 3) := dk_180 0 48 (dk_at dksJ6_isEmpty_0 1 rfl rfl)
theorem dJ6_isEmpty_4 : decode cJ6_isEmpty 4 = .ok (.ifCond .ne 7, 3) := dk_154 0 7 (dk_at dksJ6_isEmpty_0 4 rfl rfl)
theorem dJ6_isEmpty_7 : decode cJ6_isEmpty 7 = .ok (.iconst 1, 1) := dk_4 (dk_at dksJ6_isEmpty_0 7 rfl rfl)
theorem dJ6_isEmpty_8 : decode cJ6_isEmpty 8 = .ok (.goto 4, 3) := dk_167 0 4 (dk_at dksJ6_isEmpty_0 8 rfl rfl)
theorem dJ6_isEmpty_11 : decode cJ6_isEmpty 11 = .ok (.iconst 0, 1) := dk_3 (dk_at dksJ6_isEmpty_0 11 rfl rfl)
theorem dJ6_isEmpty_12 : decode cJ6_isEmpty 12 = .ok (.ireturn, 1) := dk_172 (dk_at dksJ6_isEmpty_0 12 rfl rfl)
abbrev MJ6_isEmpty : jjM := (yJ6_isEmpty, cJ6_isEmpty, 1, (Option.some Jvm.ClassFile.FieldType.boolean))
theorem npJ6_isEmpty : yJ6_isEmpty.cls ≠ "java/lang/invoke/MethodHandle" ∧ yJ6_isEmpty.cls ≠ "java/lang/invoke/VarHandle" ∧ (parseMethodDescriptor yJ6_isEmpty.desc).map (fun d => d.parameters.length) = some 0 := by decide +kernel
abbrev cJ7_length : ByteArray := prog_29_method_54_code
def yJ7_length : MethodName := ⟨RJ7, "length", "()I"⟩
def dkwJ7_length_0 : List UInt8 := [42, 180, 0, 9, 190, 42, 182, 1, 79, 122, 172]
abbrev dktJ7_length_0 : List UInt8 := dkwJ7_length_0 ++ []
theorem dksJ7_length_0 : cJ7_length.data.toList.drop 0 = dktJ7_length_0 := by decide +kernel
theorem dJ7_length_0 : decode cJ7_length 0 = .ok (.aload_n 0, 1) := dk_42 (dk_at dksJ7_length_0 0 rfl rfl)
theorem dJ7_length_1 : decode cJ7_length 1 = .ok (.getfield 9, 3) := dk_180 0 9 (dk_at dksJ7_length_0 1 rfl rfl)
theorem dJ7_length_4 : decode cJ7_length 4 = .ok (.arraylength, 1) := dk_190 (dk_at dksJ7_length_0 4 rfl rfl)
theorem dJ7_length_5 : decode cJ7_length 5 = .ok (.aload_n 0, 1) := dk_42 (dk_at dksJ7_length_0 5 rfl rfl)
theorem dJ7_length_6 : decode cJ7_length 6 = .ok (.invokevirtual 335, 3) := dk_182 1 79 (dk_at dksJ7_length_0 6 rfl rfl)
theorem dJ7_length_9 : decode cJ7_length 9 = .ok (.ishr, 1) := dk_122 (dk_at dksJ7_length_0 9 rfl rfl)
theorem dJ7_length_10 : decode cJ7_length 10 = .ok (.ireturn, 1) := dk_172 (dk_at dksJ7_length_0 10 rfl rfl)
abbrev MJ7_length : jjM := (yJ7_length, cJ7_length, 1, (Option.some Jvm.ClassFile.FieldType.int))
theorem npJ7_length : yJ7_length.cls ≠ "java/lang/invoke/MethodHandle" ∧ yJ7_length.cls ≠ "java/lang/invoke/VarHandle" ∧ (parseMethodDescriptor yJ7_length.desc).map (fun d => d.parameters.length) = some 0 := by decide +kernel
abbrev cJ7_coder : ByteArray := prog_29_method_152_code
def yJ7_coder : MethodName := ⟨RJ7, "coder", "()B"⟩
def dkwJ7_coder_0 : List UInt8 := [178, 0, 38, 153, 0, 10, 42, 180, 0, 15, 167, 0, 4, 4, 172]
abbrev dktJ7_coder_0 : List UInt8 := dkwJ7_coder_0 ++ []
theorem dksJ7_coder_0 : cJ7_coder.data.toList.drop 0 = dktJ7_coder_0 := by decide +kernel
theorem dJ7_coder_0 : decode cJ7_coder 0 = .ok (.getstatic 38, 3) := dk_178 0 38 (dk_at dksJ7_coder_0 0 rfl rfl)
theorem dJ7_coder_3 : decode cJ7_coder 3 = .ok (.ifCond .eq 10, 3) := dk_153 0 10 (dk_at dksJ7_coder_0 3 rfl rfl)
theorem dJ7_coder_6 : decode cJ7_coder 6 = .ok (.aload_n 0, 1) := dk_42 (dk_at dksJ7_coder_0 6 rfl rfl)
theorem dJ7_coder_7 : decode cJ7_coder 7 = .ok (.getfield 15, 3) := dk_180 0 15 (dk_at dksJ7_coder_0 7 rfl rfl)
theorem dJ7_coder_10 : decode cJ7_coder 10 = .ok (.goto 4, 3) := dk_167 0 4 (dk_at dksJ7_coder_0 10 rfl rfl)
theorem dJ7_coder_13 : decode cJ7_coder 13 = .ok (.iconst 1, 1) := dk_4 (dk_at dksJ7_coder_0 13 rfl rfl)
theorem dJ7_coder_14 : decode cJ7_coder 14 = .ok (.ireturn, 1) := dk_172 (dk_at dksJ7_coder_0 14 rfl rfl)
abbrev MJ7_coder : jjM := (yJ7_coder, cJ7_coder, 1, (Option.some Jvm.ClassFile.FieldType.byte))
theorem npJ7_coder : yJ7_coder.cls ≠ "java/lang/invoke/MethodHandle" ∧ yJ7_coder.cls ≠ "java/lang/invoke/VarHandle" ∧ (parseMethodDescriptor yJ7_coder.desc).map (fun d => d.parameters.length) = some 0 := by decide +kernel
abbrev cJ7_charAt : ByteArray := prog_29_method_56_code
def yJ7_charAt : MethodName := ⟨RJ7, "charAt", "(I)C"⟩
def dkwJ7_charAt_1 : List UInt8 := [172]
abbrev dktJ7_charAt_1 : List UInt8 := dkwJ7_charAt_1 ++ []
def dkwJ7_charAt_0 : List UInt8 := [42, 182, 1, 236, 153, 0, 12, 42, 180, 0, 9, 27, 184, 1, 239, 172, 42, 180, 0, 9, 27, 184, 1, 242]
abbrev dktJ7_charAt_0 : List UInt8 := dkwJ7_charAt_0 ++ dktJ7_charAt_1
theorem dksJ7_charAt_0 : cJ7_charAt.data.toList.drop 0 = dktJ7_charAt_0 := by decide +kernel
theorem dksJ7_charAt_1 : cJ7_charAt.data.toList.drop 24 = dktJ7_charAt_1 := dk_seg dksJ7_charAt_0 24 rfl rfl
theorem dJ7_charAt_0 : decode cJ7_charAt 0 = .ok (.aload_n 0, 1) := dk_42 (dk_at dksJ7_charAt_0 0 rfl rfl)
theorem dJ7_charAt_1 : decode cJ7_charAt 1 = .ok (.invokevirtual 492, 3) := dk_182 1 236 (dk_at dksJ7_charAt_0 1 rfl rfl)
theorem dJ7_charAt_4 : decode cJ7_charAt 4 = .ok (.ifCond .eq 12, 3) := dk_153 0 12 (dk_at dksJ7_charAt_0 4 rfl rfl)
theorem dJ7_charAt_7 : decode cJ7_charAt 7 = .ok (.aload_n 0, 1) := dk_42 (dk_at dksJ7_charAt_0 7 rfl rfl)
theorem dJ7_charAt_8 : decode cJ7_charAt 8 = .ok (.getfield 9, 3) := dk_180 0 9 (dk_at dksJ7_charAt_0 8 rfl rfl)
theorem dJ7_charAt_11 : decode cJ7_charAt 11 = .ok (.iload_n 1, 1) := dk_27 (dk_at dksJ7_charAt_0 11 rfl rfl)
theorem dJ7_charAt_12 : decode cJ7_charAt 12 = .ok (.invokestatic 495, 3) := dk_184 1 239 (dk_at dksJ7_charAt_0 12 rfl rfl)
theorem dJ7_charAt_15 : decode cJ7_charAt 15 = .ok (.ireturn, 1) := dk_172 (dk_at dksJ7_charAt_0 15 rfl rfl)
theorem dJ7_charAt_16 : decode cJ7_charAt 16 = .ok (.aload_n 0, 1) := dk_42 (dk_at dksJ7_charAt_0 16 rfl rfl)
theorem dJ7_charAt_17 : decode cJ7_charAt 17 = .ok (.getfield 9, 3) := dk_180 0 9 (dk_at dksJ7_charAt_0 17 rfl rfl)
theorem dJ7_charAt_20 : decode cJ7_charAt 20 = .ok (.iload_n 1, 1) := dk_27 (dk_at dksJ7_charAt_0 20 rfl rfl)
theorem dJ7_charAt_21 : decode cJ7_charAt 21 = .ok (.invokestatic 498, 3) := dk_184 1 242 (dk_at dksJ7_charAt_0 21 rfl rfl)
theorem dJ7_charAt_24 : decode cJ7_charAt 24 = .ok (.ireturn, 1) := dk_172 (dk_at dksJ7_charAt_1 0 rfl rfl)
abbrev MJ7_charAt : jjM := (yJ7_charAt, cJ7_charAt, 2, (Option.some Jvm.ClassFile.FieldType.char))
theorem npJ7_charAt : yJ7_charAt.cls ≠ "java/lang/invoke/MethodHandle" ∧ yJ7_charAt.cls ≠ "java/lang/invoke/VarHandle" ∧ (parseMethodDescriptor yJ7_charAt.desc).map (fun d => d.parameters.length) = some 1 := by decide +kernel
abbrev cJ7_isLatin1 : ByteArray := prog_29_method_154_code
def yJ7_isLatin1 : MethodName := ⟨RJ7, "isLatin1", "()Z"⟩
def dkwJ7_isLatin1_0 : List UInt8 := [178, 0, 38, 153, 0, 14, 42, 180, 0, 15, 154, 0, 7, 4, 167, 0, 4, 3, 172]
abbrev dktJ7_isLatin1_0 : List UInt8 := dkwJ7_isLatin1_0 ++ []
theorem dksJ7_isLatin1_0 : cJ7_isLatin1.data.toList.drop 0 = dktJ7_isLatin1_0 := by decide +kernel
theorem dJ7_isLatin1_0 : decode cJ7_isLatin1 0 = .ok (.getstatic 38, 3) := dk_178 0 38 (dk_at dksJ7_isLatin1_0 0 rfl rfl)
theorem dJ7_isLatin1_3 : decode cJ7_isLatin1 3 = .ok (.ifCond .eq 14, 3) := dk_153 0 14 (dk_at dksJ7_isLatin1_0 3 rfl rfl)
theorem dJ7_isLatin1_6 : decode cJ7_isLatin1 6 = .ok (.aload_n 0, 1) := dk_42 (dk_at dksJ7_isLatin1_0 6 rfl rfl)
theorem dJ7_isLatin1_7 : decode cJ7_isLatin1 7 = .ok (.getfield 15, 3) := dk_180 0 15 (dk_at dksJ7_isLatin1_0 7 rfl rfl)
theorem dJ7_isLatin1_10 : decode cJ7_isLatin1 10 = .ok (.ifCond .ne 7, 3) := dk_154 0 7 (dk_at dksJ7_isLatin1_0 10 rfl rfl)
theorem dJ7_isLatin1_13 : decode cJ7_isLatin1 13 = .ok (.iconst 1, 1) := dk_4 (dk_at dksJ7_isLatin1_0 13 rfl rfl)
theorem dJ7_isLatin1_14 : decode cJ7_isLatin1 14 = .ok (.goto 4, 3) := dk_167 0 4 (dk_at dksJ7_isLatin1_0 14 rfl rfl)
theorem dJ7_isLatin1_17 : decode cJ7_isLatin1 17 = .ok (.iconst 0, 1) := dk_3 (dk_at dksJ7_isLatin1_0 17 rfl rfl)
theorem dJ7_isLatin1_18 : decode cJ7_isLatin1 18 = .ok (.ireturn, 1) := dk_172 (dk_at dksJ7_isLatin1_0 18 rfl rfl)
abbrev MJ7_isLatin1 : jjM := (yJ7_isLatin1, cJ7_isLatin1, 1, (Option.some Jvm.ClassFile.FieldType.boolean))
theorem npJ7_isLatin1 : yJ7_isLatin1.cls ≠ "java/lang/invoke/MethodHandle" ∧ yJ7_isLatin1.cls ≠ "java/lang/invoke/VarHandle" ∧ (parseMethodDescriptor yJ7_isLatin1.desc).map (fun d => d.parameters.length) = some 0 := by decide +kernel
abbrev cJ7_checkIndex : ByteArray := prog_29_method_155_code
def yJ7_checkIndex : MethodName := ⟨RJ7, "checkIndex", "(II)V"⟩
def dkwJ7_checkIndex_0 : List UInt8 := [26, 27, 178, 4, 29, 184, 4, 35, 87, 177]
abbrev dktJ7_checkIndex_0 : List UInt8 := dkwJ7_checkIndex_0 ++ []
theorem dksJ7_checkIndex_0 : cJ7_checkIndex.data.toList.drop 0 = dktJ7_checkIndex_0 := by decide +kernel
theorem dJ7_checkIndex_0 : decode cJ7_checkIndex 0 = .ok (.iload_n 0, 1) := dk_26 (dk_at dksJ7_checkIndex_0 0 rfl rfl)
theorem dJ7_checkIndex_1 : decode cJ7_checkIndex 1 = .ok (.iload_n 1, 1) := dk_27 (dk_at dksJ7_checkIndex_0 1 rfl rfl)
theorem dJ7_checkIndex_2 : decode cJ7_checkIndex 2 = .ok (.getstatic 1053, 3) := dk_178 4 29 (dk_at dksJ7_checkIndex_0 2 rfl rfl)
theorem dJ7_checkIndex_5 : decode cJ7_checkIndex 5 = .ok (.invokestatic 1059, 3) := dk_184 4 35 (dk_at dksJ7_checkIndex_0 5 rfl rfl)
theorem dJ7_checkIndex_8 : decode cJ7_checkIndex 8 = .ok (.pop, 1) := dk_87 (dk_at dksJ7_checkIndex_0 8 rfl rfl)
theorem dJ7_checkIndex_9 : decode cJ7_checkIndex 9 = .ok (.return_, 1) := dk_177 (dk_at dksJ7_checkIndex_0 9 rfl rfl)
abbrev MJ7_checkIndex : jjM := (yJ7_checkIndex, cJ7_checkIndex, 2, (Option.none : Option Jvm.ClassFile.FieldType))
theorem npJ7_checkIndex : yJ7_checkIndex.cls ≠ "java/lang/invoke/MethodHandle" ∧ yJ7_checkIndex.cls ≠ "java/lang/invoke/VarHandle" ∧ (parseMethodDescriptor yJ7_checkIndex.desc).map (fun d => d.parameters.length) = some 2 := by decide +kernel
abbrev cJ8_charAt : ByteArray := prog_30_method_2_code
def yJ8_charAt : MethodName := ⟨RJ8, "charAt", "([BI)C"⟩
def dkwJ8_charAt_0 : List UInt8 := [27, 42, 190, 184, 0, 9, 42, 27, 51, 17, 0, 255, 126, 146, 172]
abbrev dktJ8_charAt_0 : List UInt8 := dkwJ8_charAt_0 ++ []
theorem dksJ8_charAt_0 : cJ8_charAt.data.toList.drop 0 = dktJ8_charAt_0 := by decide +kernel
theorem dJ8_charAt_0 : decode cJ8_charAt 0 = .ok (.iload_n 1, 1) := dk_27 (dk_at dksJ8_charAt_0 0 rfl rfl)
theorem dJ8_charAt_1 : decode cJ8_charAt 1 = .ok (.aload_n 0, 1) := dk_42 (dk_at dksJ8_charAt_0 1 rfl rfl)
theorem dJ8_charAt_2 : decode cJ8_charAt 2 = .ok (.arraylength, 1) := dk_190 (dk_at dksJ8_charAt_0 2 rfl rfl)
theorem dJ8_charAt_3 : decode cJ8_charAt 3 = .ok (.invokestatic 9, 3) := dk_184 0 9 (dk_at dksJ8_charAt_0 3 rfl rfl)
theorem dJ8_charAt_6 : decode cJ8_charAt 6 = .ok (.aload_n 0, 1) := dk_42 (dk_at dksJ8_charAt_0 6 rfl rfl)
theorem dJ8_charAt_7 : decode cJ8_charAt 7 = .ok (.iload_n 1, 1) := dk_27 (dk_at dksJ8_charAt_0 7 rfl rfl)
theorem dJ8_charAt_8 : decode cJ8_charAt 8 = .ok (.baload, 1) := dk_51 (dk_at dksJ8_charAt_0 8 rfl rfl)
theorem dJ8_charAt_9 : decode cJ8_charAt 9 = .ok (.sipush 255, 3) := dk_17 0 255 (dk_at dksJ8_charAt_0 9 rfl rfl)
theorem dJ8_charAt_12 : decode cJ8_charAt 12 = .ok (.iand, 1) := dk_126 (dk_at dksJ8_charAt_0 12 rfl rfl)
theorem dJ8_charAt_13 : decode cJ8_charAt 13 = .ok (.i2c, 1) := dk_146 (dk_at dksJ8_charAt_0 13 rfl rfl)
theorem dJ8_charAt_14 : decode cJ8_charAt 14 = .ok (.ireturn, 1) := dk_172 (dk_at dksJ8_charAt_0 14 rfl rfl)
abbrev MJ8_charAt : jjM := (yJ8_charAt, cJ8_charAt, 2, (Option.some Jvm.ClassFile.FieldType.char))
theorem npJ8_charAt : yJ8_charAt.cls ≠ "java/lang/invoke/MethodHandle" ∧ yJ8_charAt.cls ≠ "java/lang/invoke/VarHandle" ∧ (parseMethodDescriptor yJ8_charAt.desc).map (fun d => d.parameters.length) = some 2 := by decide +kernel
abbrev cJ9_charAt : ByteArray := prog_31_method_83_code
def yJ9_charAt : MethodName := ⟨RJ9, "charAt", "([BI)C"⟩
def dkwJ9_charAt_0 : List UInt8 := [27, 42, 184, 0, 67, 42, 27, 184, 0, 71, 172]
abbrev dktJ9_charAt_0 : List UInt8 := dkwJ9_charAt_0 ++ []
theorem dksJ9_charAt_0 : cJ9_charAt.data.toList.drop 0 = dktJ9_charAt_0 := by decide +kernel
theorem dJ9_charAt_0 : decode cJ9_charAt 0 = .ok (.iload_n 1, 1) := dk_27 (dk_at dksJ9_charAt_0 0 rfl rfl)
theorem dJ9_charAt_1 : decode cJ9_charAt 1 = .ok (.aload_n 0, 1) := dk_42 (dk_at dksJ9_charAt_0 1 rfl rfl)
theorem dJ9_charAt_2 : decode cJ9_charAt 2 = .ok (.invokestatic 67, 3) := dk_184 0 67 (dk_at dksJ9_charAt_0 2 rfl rfl)
theorem dJ9_charAt_5 : decode cJ9_charAt 5 = .ok (.aload_n 0, 1) := dk_42 (dk_at dksJ9_charAt_0 5 rfl rfl)
theorem dJ9_charAt_6 : decode cJ9_charAt 6 = .ok (.iload_n 1, 1) := dk_27 (dk_at dksJ9_charAt_0 6 rfl rfl)
theorem dJ9_charAt_7 : decode cJ9_charAt 7 = .ok (.invokestatic 71, 3) := dk_184 0 71 (dk_at dksJ9_charAt_0 7 rfl rfl)
theorem dJ9_charAt_10 : decode cJ9_charAt 10 = .ok (.ireturn, 1) := dk_172 (dk_at dksJ9_charAt_0 10 rfl rfl)
abbrev MJ9_charAt : jjM := (yJ9_charAt, cJ9_charAt, 2, (Option.some Jvm.ClassFile.FieldType.char))
theorem npJ9_charAt : yJ9_charAt.cls ≠ "java/lang/invoke/MethodHandle" ∧ yJ9_charAt.cls ≠ "java/lang/invoke/VarHandle" ∧ (parseMethodDescriptor yJ9_charAt.desc).map (fun d => d.parameters.length) = some 2 := by decide +kernel
abbrev cJ9_checkIndex : ByteArray := prog_31_method_91_code
def yJ9_checkIndex : MethodName := ⟨RJ9, "checkIndex", "(I[B)V"⟩
def dkwJ9_checkIndex_0 : List UInt8 := [26, 43, 184, 0, 48, 184, 1, 158, 177]
abbrev dktJ9_checkIndex_0 : List UInt8 := dkwJ9_checkIndex_0 ++ []
theorem dksJ9_checkIndex_0 : cJ9_checkIndex.data.toList.drop 0 = dktJ9_checkIndex_0 := by decide +kernel
theorem dJ9_checkIndex_0 : decode cJ9_checkIndex 0 = .ok (.iload_n 0, 1) := dk_26 (dk_at dksJ9_checkIndex_0 0 rfl rfl)
theorem dJ9_checkIndex_1 : decode cJ9_checkIndex 1 = .ok (.aload_n 1, 1) := dk_43 (dk_at dksJ9_checkIndex_0 1 rfl rfl)
theorem dJ9_checkIndex_2 : decode cJ9_checkIndex 2 = .ok (.invokestatic 48, 3) := dk_184 0 48 (dk_at dksJ9_checkIndex_0 2 rfl rfl)
theorem dJ9_checkIndex_5 : decode cJ9_checkIndex 5 = .ok (.invokestatic 414, 3) := dk_184 1 158 (dk_at dksJ9_checkIndex_0 5 rfl rfl)
theorem dJ9_checkIndex_8 : decode cJ9_checkIndex 8 = .ok (.return_, 1) := dk_177 (dk_at dksJ9_checkIndex_0 8 rfl rfl)
abbrev MJ9_checkIndex : jjM := (yJ9_checkIndex, cJ9_checkIndex, 2, (Option.none : Option Jvm.ClassFile.FieldType))
theorem npJ9_checkIndex : yJ9_checkIndex.cls ≠ "java/lang/invoke/MethodHandle" ∧ yJ9_checkIndex.cls ≠ "java/lang/invoke/VarHandle" ∧ (parseMethodDescriptor yJ9_checkIndex.desc).map (fun d => d.parameters.length) = some 2 := by decide +kernel
abbrev cJ9_length : ByteArray := prog_31_method_6_code
def yJ9_length : MethodName := ⟨RJ9, "length", "([B)I"⟩
def dkwJ9_length_0 : List UInt8 := [42, 190, 4, 122, 172]
abbrev dktJ9_length_0 : List UInt8 := dkwJ9_length_0 ++ []
theorem dksJ9_length_0 : cJ9_length.data.toList.drop 0 = dktJ9_length_0 := by decide +kernel
theorem dJ9_length_0 : decode cJ9_length 0 = .ok (.aload_n 0, 1) := dk_42 (dk_at dksJ9_length_0 0 rfl rfl)
theorem dJ9_length_1 : decode cJ9_length 1 = .ok (.arraylength, 1) := dk_190 (dk_at dksJ9_length_0 1 rfl rfl)
theorem dJ9_length_2 : decode cJ9_length 2 = .ok (.iconst 1, 1) := dk_4 (dk_at dksJ9_length_0 2 rfl rfl)
theorem dJ9_length_3 : decode cJ9_length 3 = .ok (.ishr, 1) := dk_122 (dk_at dksJ9_length_0 3 rfl rfl)
theorem dJ9_length_4 : decode cJ9_length 4 = .ok (.ireturn, 1) := dk_172 (dk_at dksJ9_length_0 4 rfl rfl)
abbrev MJ9_length : jjM := (yJ9_length, cJ9_length, 1, (Option.some Jvm.ClassFile.FieldType.int))
theorem npJ9_length : yJ9_length.cls ≠ "java/lang/invoke/MethodHandle" ∧ yJ9_length.cls ≠ "java/lang/invoke/VarHandle" ∧ (parseMethodDescriptor yJ9_length.desc).map (fun d => d.parameters.length) = some 1 := by decide +kernel
abbrev cJ9_getChar : ByteArray := prog_31_method_5_code
def yJ9_getChar : MethodName := ⟨RJ9, "getChar", "([BI)C"⟩
def dkwJ9_getChar_2 : List UInt8 := [51, 17, 0, 255, 126, 178, 0, 63, 120, 128, 146, 172]
abbrev dktJ9_getChar_2 : List UInt8 := dkwJ9_getChar_2 ++ []
def dkwJ9_getChar_1 : List UInt8 := [183, 0, 56, 191, 27, 4, 120, 60, 42, 27, 132, 1, 1, 51, 17, 0, 255, 126, 178, 0, 59, 120, 42, 27]
abbrev dktJ9_getChar_1 : List UInt8 := dkwJ9_getChar_1 ++ dktJ9_getChar_2
def dkwJ9_getChar_0 : List UInt8 := [178, 0, 44, 154, 0, 25, 27, 155, 0, 11, 27, 42, 184, 0, 48, 161, 0, 13, 187, 0, 52, 89, 18, 54]
abbrev dktJ9_getChar_0 : List UInt8 := dkwJ9_getChar_0 ++ dktJ9_getChar_1
theorem dksJ9_getChar_0 : cJ9_getChar.data.toList.drop 0 = dktJ9_getChar_0 := by decide +kernel
theorem dksJ9_getChar_1 : cJ9_getChar.data.toList.drop 24 = dktJ9_getChar_1 := dk_seg dksJ9_getChar_0 24 rfl rfl
theorem dksJ9_getChar_2 : cJ9_getChar.data.toList.drop 48 = dktJ9_getChar_2 := dk_seg dksJ9_getChar_1 24 rfl rfl
theorem dJ9_getChar_0 : decode cJ9_getChar 0 = .ok (.getstatic 44, 3) := dk_178 0 44 (dk_at dksJ9_getChar_0 0 rfl rfl)
theorem dJ9_getChar_3 : decode cJ9_getChar 3 = .ok (.ifCond .ne 25, 3) := dk_154 0 25 (dk_at dksJ9_getChar_0 3 rfl rfl)
theorem dJ9_getChar_6 : decode cJ9_getChar 6 = .ok (.iload_n 1, 1) := dk_27 (dk_at dksJ9_getChar_0 6 rfl rfl)
theorem dJ9_getChar_7 : decode cJ9_getChar 7 = .ok (.ifCond .lt 11, 3) := dk_155 0 11 (dk_at dksJ9_getChar_0 7 rfl rfl)
theorem dJ9_getChar_10 : decode cJ9_getChar 10 = .ok (.iload_n 1, 1) := dk_27 (dk_at dksJ9_getChar_0 10 rfl rfl)
theorem dJ9_getChar_11 : decode cJ9_getChar 11 = .ok (.aload_n 0, 1) := dk_42 (dk_at dksJ9_getChar_0 11 rfl rfl)
theorem dJ9_getChar_12 : decode cJ9_getChar 12 = .ok (.invokestatic 48, 3) := dk_184 0 48 (dk_at dksJ9_getChar_0 12 rfl rfl)
theorem dJ9_getChar_15 : decode cJ9_getChar 15 = .ok (.if_icmp .lt 13, 3) := dk_161 0 13 (dk_at dksJ9_getChar_0 15 rfl rfl)
theorem dJ9_getChar_18 : decode cJ9_getChar 18 = .ok (.new 52, 3) := dk_187 0 52 (dk_at dksJ9_getChar_0 18 rfl rfl)
theorem dJ9_getChar_21 : decode cJ9_getChar 21 = .ok (.dup, 1) := dk_89 (dk_at dksJ9_getChar_0 21 rfl rfl)
theorem dJ9_getChar_22 : decode cJ9_getChar 22 = .ok (.ldc 54, 2) := dk_18 54 (dk_at dksJ9_getChar_0 22 rfl rfl)
theorem dJ9_getChar_24 : decode cJ9_getChar 24 = .ok (.invokespecial 56, 3) := dk_183 0 56 (dk_at dksJ9_getChar_1 0 rfl rfl)
theorem dJ9_getChar_27 : decode cJ9_getChar 27 = .ok (.athrow, 1) := dk_191 (dk_at dksJ9_getChar_1 3 rfl rfl)
theorem dJ9_getChar_28 : decode cJ9_getChar 28 = .ok (.iload_n 1, 1) := dk_27 (dk_at dksJ9_getChar_1 4 rfl rfl)
theorem dJ9_getChar_29 : decode cJ9_getChar 29 = .ok (.iconst 1, 1) := dk_4 (dk_at dksJ9_getChar_1 5 rfl rfl)
theorem dJ9_getChar_30 : decode cJ9_getChar 30 = .ok (.ishl, 1) := dk_120 (dk_at dksJ9_getChar_1 6 rfl rfl)
theorem dJ9_getChar_31 : decode cJ9_getChar 31 = .ok (.istore_n 1, 1) := dk_60 (dk_at dksJ9_getChar_1 7 rfl rfl)
theorem dJ9_getChar_32 : decode cJ9_getChar 32 = .ok (.aload_n 0, 1) := dk_42 (dk_at dksJ9_getChar_1 8 rfl rfl)
theorem dJ9_getChar_33 : decode cJ9_getChar 33 = .ok (.iload_n 1, 1) := dk_27 (dk_at dksJ9_getChar_1 9 rfl rfl)
theorem dJ9_getChar_34 : decode cJ9_getChar 34 = .ok (.iinc 1 1, 3) := dk_132 1 1 (dk_at dksJ9_getChar_1 10 rfl rfl)
theorem dJ9_getChar_37 : decode cJ9_getChar 37 = .ok (.baload, 1) := dk_51 (dk_at dksJ9_getChar_1 13 rfl rfl)
theorem dJ9_getChar_38 : decode cJ9_getChar 38 = .ok (.sipush 255, 3) := dk_17 0 255 (dk_at dksJ9_getChar_1 14 rfl rfl)
theorem dJ9_getChar_41 : decode cJ9_getChar 41 = .ok (.iand, 1) := dk_126 (dk_at dksJ9_getChar_1 17 rfl rfl)
theorem dJ9_getChar_42 : decode cJ9_getChar 42 = .ok (.getstatic 59, 3) := dk_178 0 59 (dk_at dksJ9_getChar_1 18 rfl rfl)
theorem dJ9_getChar_45 : decode cJ9_getChar 45 = .ok (.ishl, 1) := dk_120 (dk_at dksJ9_getChar_1 21 rfl rfl)
theorem dJ9_getChar_46 : decode cJ9_getChar 46 = .ok (.aload_n 0, 1) := dk_42 (dk_at dksJ9_getChar_1 22 rfl rfl)
theorem dJ9_getChar_47 : decode cJ9_getChar 47 = .ok (.iload_n 1, 1) := dk_27 (dk_at dksJ9_getChar_1 23 rfl rfl)
theorem dJ9_getChar_48 : decode cJ9_getChar 48 = .ok (.baload, 1) := dk_51 (dk_at dksJ9_getChar_2 0 rfl rfl)
theorem dJ9_getChar_49 : decode cJ9_getChar 49 = .ok (.sipush 255, 3) := dk_17 0 255 (dk_at dksJ9_getChar_2 1 rfl rfl)
theorem dJ9_getChar_52 : decode cJ9_getChar 52 = .ok (.iand, 1) := dk_126 (dk_at dksJ9_getChar_2 4 rfl rfl)
theorem dJ9_getChar_53 : decode cJ9_getChar 53 = .ok (.getstatic 63, 3) := dk_178 0 63 (dk_at dksJ9_getChar_2 5 rfl rfl)
theorem dJ9_getChar_56 : decode cJ9_getChar 56 = .ok (.ishl, 1) := dk_120 (dk_at dksJ9_getChar_2 8 rfl rfl)
theorem dJ9_getChar_57 : decode cJ9_getChar 57 = .ok (.ior, 1) := dk_128 (dk_at dksJ9_getChar_2 9 rfl rfl)
theorem dJ9_getChar_58 : decode cJ9_getChar 58 = .ok (.i2c, 1) := dk_146 (dk_at dksJ9_getChar_2 10 rfl rfl)
theorem dJ9_getChar_59 : decode cJ9_getChar 59 = .ok (.ireturn, 1) := dk_172 (dk_at dksJ9_getChar_2 11 rfl rfl)
abbrev MJ9_getChar : jjM := (yJ9_getChar, cJ9_getChar, 2, (Option.some Jvm.ClassFile.FieldType.char))
theorem npJ9_getChar : yJ9_getChar.cls ≠ "java/lang/invoke/MethodHandle" ∧ yJ9_getChar.cls ≠ "java/lang/invoke/VarHandle" ∧ (parseMethodDescriptor yJ9_getChar.desc).map (fun d => d.parameters.length) = some 2 := by decide +kernel
abbrev cX0_init : ByteArray := prog_1_method_2_code
def yX0_init : MethodName := ⟨RX0, "<init>", "()V"⟩
def dkwX0_init_6 : List UInt8 := [180, 0, 16, 42, 180, 0, 12, 182, 0, 67, 177]
abbrev dktX0_init_6 : List UInt8 := dkwX0_init_6 ++ []
def dkwX0_init_5 : List UInt8 := [197, 0, 56, 2, 181, 0, 58, 42, 16, 10, 188, 10, 181, 0, 61, 42, 16, 10, 188, 10, 181, 0, 64, 42]
abbrev dktX0_init_5 : List UInt8 := dkwX0_init_5 ++ dktX0_init_6
def dkwX0_init_4 : List UInt8 := [42, 17, 2, 208, 188, 10, 181, 0, 50, 42, 17, 2, 208, 188, 10, 181, 0, 53, 42, 16, 6, 8]
abbrev dktX0_init_4 : List UInt8 := dkwX0_init_4 ++ dktX0_init_5
def dkwX0_init_3 : List UInt8 := [17, 1, 245, 188, 11, 181, 0, 40, 42, 16, 6, 188, 10, 181, 0, 44, 42, 16, 6, 188, 10, 181, 0, 47]
abbrev dktX0_init_3 : List UInt8 := dkwX0_init_3 ++ dktX0_init_4
def dkwX0_init_2 : List UInt8 := [16, 15, 188, 10, 181, 0, 30, 42, 16, 10, 188, 10, 181, 0, 34, 42, 16, 10, 188, 10, 181, 0, 37, 42]
abbrev dktX0_init_2 : List UInt8 := dkwX0_init_2 ++ dktX0_init_3
def dkwX0_init_1 : List UInt8 := [181, 0, 16, 42, 17, 1, 44, 188, 8, 181, 0, 19, 42, 2, 181, 0, 23, 42, 2, 181, 0, 27, 42]
abbrev dktX0_init_1 : List UInt8 := dkwX0_init_1 ++ dktX0_init_2
def dkwX0_init_0 : List UInt8 := [42, 183, 0, 3, 42, 187, 0, 9, 89, 183, 0, 11, 181, 0, 12, 42, 187, 0, 9, 89, 183, 0, 11]
abbrev dktX0_init_0 : List UInt8 := dkwX0_init_0 ++ dktX0_init_1
theorem dksX0_init_0 : cX0_init.data.toList.drop 0 = dktX0_init_0 := by decide +kernel
theorem dksX0_init_1 : cX0_init.data.toList.drop 23 = dktX0_init_1 := dk_seg dksX0_init_0 23 rfl rfl
theorem dksX0_init_2 : cX0_init.data.toList.drop 46 = dktX0_init_2 := dk_seg dksX0_init_1 23 rfl rfl
theorem dksX0_init_3 : cX0_init.data.toList.drop 70 = dktX0_init_3 := dk_seg dksX0_init_2 24 rfl rfl
theorem dksX0_init_4 : cX0_init.data.toList.drop 94 = dktX0_init_4 := dk_seg dksX0_init_3 24 rfl rfl
theorem dksX0_init_5 : cX0_init.data.toList.drop 116 = dktX0_init_5 := dk_seg dksX0_init_4 22 rfl rfl
theorem dksX0_init_6 : cX0_init.data.toList.drop 140 = dktX0_init_6 := dk_seg dksX0_init_5 24 rfl rfl
theorem dX0_init_0 : decode cX0_init 0 = .ok (.aload_n 0, 1) := dk_42 (dk_at dksX0_init_0 0 rfl rfl)
theorem dX0_init_1 : decode cX0_init 1 = .ok (.invokespecial 3, 3) := dk_183 0 3 (dk_at dksX0_init_0 1 rfl rfl)
theorem dX0_init_4 : decode cX0_init 4 = .ok (.aload_n 0, 1) := dk_42 (dk_at dksX0_init_0 4 rfl rfl)
theorem dX0_init_5 : decode cX0_init 5 = .ok (.new 9, 3) := dk_187 0 9 (dk_at dksX0_init_0 5 rfl rfl)
theorem dX0_init_8 : decode cX0_init 8 = .ok (.dup, 1) := dk_89 (dk_at dksX0_init_0 8 rfl rfl)
theorem dX0_init_9 : decode cX0_init 9 = .ok (.invokespecial 11, 3) := dk_183 0 11 (dk_at dksX0_init_0 9 rfl rfl)
theorem dX0_init_12 : decode cX0_init 12 = .ok (.putfield 12, 3) := dk_181 0 12 (dk_at dksX0_init_0 12 rfl rfl)
theorem dX0_init_15 : decode cX0_init 15 = .ok (.aload_n 0, 1) := dk_42 (dk_at dksX0_init_0 15 rfl rfl)
theorem dX0_init_16 : decode cX0_init 16 = .ok (.new 9, 3) := dk_187 0 9 (dk_at dksX0_init_0 16 rfl rfl)
theorem dX0_init_19 : decode cX0_init 19 = .ok (.dup, 1) := dk_89 (dk_at dksX0_init_0 19 rfl rfl)
theorem dX0_init_20 : decode cX0_init 20 = .ok (.invokespecial 11, 3) := dk_183 0 11 (dk_at dksX0_init_0 20 rfl rfl)
theorem dX0_init_23 : decode cX0_init 23 = .ok (.putfield 16, 3) := dk_181 0 16 (dk_at dksX0_init_1 0 rfl rfl)
theorem dX0_init_26 : decode cX0_init 26 = .ok (.aload_n 0, 1) := dk_42 (dk_at dksX0_init_1 3 rfl rfl)
theorem dX0_init_27 : decode cX0_init 27 = .ok (.sipush 300, 3) := dk_17 1 44 (dk_at dksX0_init_1 4 rfl rfl)
theorem dX0_init_30 : decode cX0_init 30 = .ok (.newarray .byte, 2) := dk_188_8 (dk_at dksX0_init_1 7 rfl rfl)
theorem dX0_init_32 : decode cX0_init 32 = .ok (.putfield 19, 3) := dk_181 0 19 (dk_at dksX0_init_1 9 rfl rfl)
theorem dX0_init_35 : decode cX0_init 35 = .ok (.aload_n 0, 1) := dk_42 (dk_at dksX0_init_1 12 rfl rfl)
theorem dX0_init_36 : decode cX0_init 36 = .ok (.iconst (-1), 1) := dk_2 (dk_at dksX0_init_1 13 rfl rfl)
theorem dX0_init_37 : decode cX0_init 37 = .ok (.putfield 23, 3) := dk_181 0 23 (dk_at dksX0_init_1 14 rfl rfl)
theorem dX0_init_40 : decode cX0_init 40 = .ok (.aload_n 0, 1) := dk_42 (dk_at dksX0_init_1 17 rfl rfl)
theorem dX0_init_41 : decode cX0_init 41 = .ok (.iconst (-1), 1) := dk_2 (dk_at dksX0_init_1 18 rfl rfl)
theorem dX0_init_42 : decode cX0_init 42 = .ok (.putfield 27, 3) := dk_181 0 27 (dk_at dksX0_init_1 19 rfl rfl)
theorem dX0_init_45 : decode cX0_init 45 = .ok (.aload_n 0, 1) := dk_42 (dk_at dksX0_init_1 22 rfl rfl)
theorem dX0_init_46 : decode cX0_init 46 = .ok (.bipush 15, 2) := dk_16 15 (dk_at dksX0_init_2 0 rfl rfl)
theorem dX0_init_48 : decode cX0_init 48 = .ok (.newarray .int, 2) := dk_188_10 (dk_at dksX0_init_2 2 rfl rfl)
theorem dX0_init_50 : decode cX0_init 50 = .ok (.putfield 30, 3) := dk_181 0 30 (dk_at dksX0_init_2 4 rfl rfl)
theorem dX0_init_53 : decode cX0_init 53 = .ok (.aload_n 0, 1) := dk_42 (dk_at dksX0_init_2 7 rfl rfl)
theorem dX0_init_54 : decode cX0_init 54 = .ok (.bipush 10, 2) := dk_16 10 (dk_at dksX0_init_2 8 rfl rfl)
theorem dX0_init_56 : decode cX0_init 56 = .ok (.newarray .int, 2) := dk_188_10 (dk_at dksX0_init_2 10 rfl rfl)
theorem dX0_init_58 : decode cX0_init 58 = .ok (.putfield 34, 3) := dk_181 0 34 (dk_at dksX0_init_2 12 rfl rfl)
theorem dX0_init_61 : decode cX0_init 61 = .ok (.aload_n 0, 1) := dk_42 (dk_at dksX0_init_2 15 rfl rfl)
theorem dX0_init_62 : decode cX0_init 62 = .ok (.bipush 10, 2) := dk_16 10 (dk_at dksX0_init_2 16 rfl rfl)
theorem dX0_init_64 : decode cX0_init 64 = .ok (.newarray .int, 2) := dk_188_10 (dk_at dksX0_init_2 18 rfl rfl)
theorem dX0_init_66 : decode cX0_init 66 = .ok (.putfield 37, 3) := dk_181 0 37 (dk_at dksX0_init_2 20 rfl rfl)
theorem dX0_init_69 : decode cX0_init 69 = .ok (.aload_n 0, 1) := dk_42 (dk_at dksX0_init_2 23 rfl rfl)
theorem dX0_init_70 : decode cX0_init 70 = .ok (.sipush 501, 3) := dk_17 1 245 (dk_at dksX0_init_3 0 rfl rfl)
theorem dX0_init_73 : decode cX0_init 73 = .ok (.newarray .long, 2) := dk_188_11 (dk_at dksX0_init_3 3 rfl rfl)
theorem dX0_init_75 : decode cX0_init 75 = .ok (.putfield 40, 3) := dk_181 0 40 (dk_at dksX0_init_3 5 rfl rfl)
theorem dX0_init_78 : decode cX0_init 78 = .ok (.aload_n 0, 1) := dk_42 (dk_at dksX0_init_3 8 rfl rfl)
theorem dX0_init_79 : decode cX0_init 79 = .ok (.bipush 6, 2) := dk_16 6 (dk_at dksX0_init_3 9 rfl rfl)
theorem dX0_init_81 : decode cX0_init 81 = .ok (.newarray .int, 2) := dk_188_10 (dk_at dksX0_init_3 11 rfl rfl)
theorem dX0_init_83 : decode cX0_init 83 = .ok (.putfield 44, 3) := dk_181 0 44 (dk_at dksX0_init_3 13 rfl rfl)
theorem dX0_init_86 : decode cX0_init 86 = .ok (.aload_n 0, 1) := dk_42 (dk_at dksX0_init_3 16 rfl rfl)
theorem dX0_init_87 : decode cX0_init 87 = .ok (.bipush 6, 2) := dk_16 6 (dk_at dksX0_init_3 17 rfl rfl)
theorem dX0_init_89 : decode cX0_init 89 = .ok (.newarray .int, 2) := dk_188_10 (dk_at dksX0_init_3 19 rfl rfl)
theorem dX0_init_91 : decode cX0_init 91 = .ok (.putfield 47, 3) := dk_181 0 47 (dk_at dksX0_init_3 21 rfl rfl)
theorem dX0_init_94 : decode cX0_init 94 = .ok (.aload_n 0, 1) := dk_42 (dk_at dksX0_init_4 0 rfl rfl)
theorem dX0_init_95 : decode cX0_init 95 = .ok (.sipush 720, 3) := dk_17 2 208 (dk_at dksX0_init_4 1 rfl rfl)
theorem dX0_init_98 : decode cX0_init 98 = .ok (.newarray .int, 2) := dk_188_10 (dk_at dksX0_init_4 4 rfl rfl)
theorem dX0_init_100 : decode cX0_init 100 = .ok (.putfield 50, 3) := dk_181 0 50 (dk_at dksX0_init_4 6 rfl rfl)
theorem dX0_init_103 : decode cX0_init 103 = .ok (.aload_n 0, 1) := dk_42 (dk_at dksX0_init_4 9 rfl rfl)
theorem dX0_init_104 : decode cX0_init 104 = .ok (.sipush 720, 3) := dk_17 2 208 (dk_at dksX0_init_4 10 rfl rfl)
theorem dX0_init_107 : decode cX0_init 107 = .ok (.newarray .int, 2) := dk_188_10 (dk_at dksX0_init_4 13 rfl rfl)
theorem dX0_init_109 : decode cX0_init 109 = .ok (.putfield 53, 3) := dk_181 0 53 (dk_at dksX0_init_4 15 rfl rfl)
theorem dX0_init_112 : decode cX0_init 112 = .ok (.aload_n 0, 1) := dk_42 (dk_at dksX0_init_4 18 rfl rfl)
theorem dX0_init_113 : decode cX0_init 113 = .ok (.bipush 6, 2) := dk_16 6 (dk_at dksX0_init_4 19 rfl rfl)
theorem dX0_init_115 : decode cX0_init 115 = .ok (.iconst 5, 1) := dk_8 (dk_at dksX0_init_4 21 rfl rfl)
theorem dX0_init_116 : decode cX0_init 116 = .ok (.multianewarray 56 2, 4) := by decide +kernel
theorem dX0_init_120 : decode cX0_init 120 = .ok (.putfield 58, 3) := dk_181 0 58 (dk_at dksX0_init_5 4 rfl rfl)
theorem dX0_init_123 : decode cX0_init 123 = .ok (.aload_n 0, 1) := dk_42 (dk_at dksX0_init_5 7 rfl rfl)
theorem dX0_init_124 : decode cX0_init 124 = .ok (.bipush 10, 2) := dk_16 10 (dk_at dksX0_init_5 8 rfl rfl)
theorem dX0_init_126 : decode cX0_init 126 = .ok (.newarray .int, 2) := dk_188_10 (dk_at dksX0_init_5 10 rfl rfl)
theorem dX0_init_128 : decode cX0_init 128 = .ok (.putfield 61, 3) := dk_181 0 61 (dk_at dksX0_init_5 12 rfl rfl)
theorem dX0_init_131 : decode cX0_init 131 = .ok (.aload_n 0, 1) := dk_42 (dk_at dksX0_init_5 15 rfl rfl)
theorem dX0_init_132 : decode cX0_init 132 = .ok (.bipush 10, 2) := dk_16 10 (dk_at dksX0_init_5 16 rfl rfl)
theorem dX0_init_134 : decode cX0_init 134 = .ok (.newarray .int, 2) := dk_188_10 (dk_at dksX0_init_5 18 rfl rfl)
theorem dX0_init_136 : decode cX0_init 136 = .ok (.putfield 64, 3) := dk_181 0 64 (dk_at dksX0_init_5 20 rfl rfl)
theorem dX0_init_139 : decode cX0_init 139 = .ok (.aload_n 0, 1) := dk_42 (dk_at dksX0_init_5 23 rfl rfl)
theorem dX0_init_140 : decode cX0_init 140 = .ok (.getfield 16, 3) := dk_180 0 16 (dk_at dksX0_init_6 0 rfl rfl)
theorem dX0_init_143 : decode cX0_init 143 = .ok (.aload_n 0, 1) := dk_42 (dk_at dksX0_init_6 3 rfl rfl)
theorem dX0_init_144 : decode cX0_init 144 = .ok (.getfield 12, 3) := dk_180 0 12 (dk_at dksX0_init_6 4 rfl rfl)
theorem dX0_init_147 : decode cX0_init 147 = .ok (.invokevirtual 67, 3) := dk_182 0 67 (dk_at dksX0_init_6 7 rfl rfl)
theorem dX0_init_150 : decode cX0_init 150 = .ok (.return_, 1) := dk_177 (dk_at dksX0_init_6 10 rfl rfl)
abbrev MX0_init : jjM := (yX0_init, cX0_init, 1, (Option.none : Option Jvm.ClassFile.FieldType))
theorem npX0_init : yX0_init.cls ≠ "java/lang/invoke/MethodHandle" ∧ yX0_init.cls ≠ "java/lang/invoke/VarHandle" ∧ (parseMethodDescriptor yX0_init.desc).map (fun d => d.parameters.length) = some 0 := by decide +kernel
abbrev cX0_wide : ByteArray := prog_1_method_7_code
def yX0_wide : MethodName := ⟨RX0, "wide", "(II)Z"⟩
def dkwX0_wide_1 : List UInt8 := [162, 0, 5, 3, 172, 42, 180, 0, 12, 180, 0, 93, 27, 28, 79, 4, 172]
abbrev dktX0_wide_1 : List UInt8 := dkwX0_wide_1 ++ []
def dkwX0_wide_0 : List UInt8 := [27, 184, 0, 87, 153, 0, 22, 28, 4, 16, 99, 184, 0, 74, 153, 0, 12, 28, 42, 27, 182, 0, 90]
abbrev dktX0_wide_0 : List UInt8 := dkwX0_wide_0 ++ dktX0_wide_1
theorem dksX0_wide_0 : cX0_wide.data.toList.drop 0 = dktX0_wide_0 := by decide +kernel
theorem dksX0_wide_1 : cX0_wide.data.toList.drop 23 = dktX0_wide_1 := dk_seg dksX0_wide_0 23 rfl rfl
theorem dX0_wide_0 : decode cX0_wide 0 = .ok (.iload_n 1, 1) := dk_27 (dk_at dksX0_wide_0 0 rfl rfl)
theorem dX0_wide_1 : decode cX0_wide 1 = .ok (.invokestatic 87, 3) := dk_184 0 87 (dk_at dksX0_wide_0 1 rfl rfl)
theorem dX0_wide_4 : decode cX0_wide 4 = .ok (.ifCond .eq 22, 3) := dk_153 0 22 (dk_at dksX0_wide_0 4 rfl rfl)
theorem dX0_wide_7 : decode cX0_wide 7 = .ok (.iload_n 2, 1) := dk_28 (dk_at dksX0_wide_0 7 rfl rfl)
theorem dX0_wide_8 : decode cX0_wide 8 = .ok (.iconst 1, 1) := dk_4 (dk_at dksX0_wide_0 8 rfl rfl)
theorem dX0_wide_9 : decode cX0_wide 9 = .ok (.bipush 99, 2) := dk_16 99 (dk_at dksX0_wide_0 9 rfl rfl)
theorem dX0_wide_11 : decode cX0_wide 11 = .ok (.invokestatic 74, 3) := dk_184 0 74 (dk_at dksX0_wide_0 11 rfl rfl)
theorem dX0_wide_14 : decode cX0_wide 14 = .ok (.ifCond .eq 12, 3) := dk_153 0 12 (dk_at dksX0_wide_0 14 rfl rfl)
theorem dX0_wide_17 : decode cX0_wide 17 = .ok (.iload_n 2, 1) := dk_28 (dk_at dksX0_wide_0 17 rfl rfl)
theorem dX0_wide_18 : decode cX0_wide 18 = .ok (.aload_n 0, 1) := dk_42 (dk_at dksX0_wide_0 18 rfl rfl)
theorem dX0_wide_19 : decode cX0_wide 19 = .ok (.iload_n 1, 1) := dk_27 (dk_at dksX0_wide_0 19 rfl rfl)
theorem dX0_wide_20 : decode cX0_wide 20 = .ok (.invokevirtual 90, 3) := dk_182 0 90 (dk_at dksX0_wide_0 20 rfl rfl)
theorem dX0_wide_23 : decode cX0_wide 23 = .ok (.if_icmp .ge 5, 3) := dk_162 0 5 (dk_at dksX0_wide_1 0 rfl rfl)
theorem dX0_wide_26 : decode cX0_wide 26 = .ok (.iconst 0, 1) := dk_3 (dk_at dksX0_wide_1 3 rfl rfl)
theorem dX0_wide_27 : decode cX0_wide 27 = .ok (.ireturn, 1) := dk_172 (dk_at dksX0_wide_1 4 rfl rfl)
theorem dX0_wide_28 : decode cX0_wide 28 = .ok (.aload_n 0, 1) := dk_42 (dk_at dksX0_wide_1 5 rfl rfl)
theorem dX0_wide_29 : decode cX0_wide 29 = .ok (.getfield 12, 3) := dk_180 0 12 (dk_at dksX0_wide_1 6 rfl rfl)
theorem dX0_wide_32 : decode cX0_wide 32 = .ok (.getfield 93, 3) := dk_180 0 93 (dk_at dksX0_wide_1 9 rfl rfl)
theorem dX0_wide_35 : decode cX0_wide 35 = .ok (.iload_n 1, 1) := dk_27 (dk_at dksX0_wide_1 12 rfl rfl)
theorem dX0_wide_36 : decode cX0_wide 36 = .ok (.iload_n 2, 1) := dk_28 (dk_at dksX0_wide_1 13 rfl rfl)
theorem dX0_wide_37 : decode cX0_wide 37 = .ok (.iastore, 1) := dk_79 (dk_at dksX0_wide_1 14 rfl rfl)
theorem dX0_wide_38 : decode cX0_wide 38 = .ok (.iconst 1, 1) := dk_4 (dk_at dksX0_wide_1 15 rfl rfl)
theorem dX0_wide_39 : decode cX0_wide 39 = .ok (.ireturn, 1) := dk_172 (dk_at dksX0_wide_1 16 rfl rfl)
abbrev MX0_wide : jjM := (yX0_wide, cX0_wide, 3, (Option.some Jvm.ClassFile.FieldType.boolean))
theorem npX0_wide : yX0_wide.cls ≠ "java/lang/invoke/MethodHandle" ∧ yX0_wide.cls ≠ "java/lang/invoke/VarHandle" ∧ (parseMethodDescriptor yX0_wide.desc).map (fun d => d.parameters.length) = some 2 := by decide +kernel
abbrev cX0_isShelf : ByteArray := prog_1_method_4_code
def yX0_isShelf : MethodName := ⟨RX0, "isShelf", "(I)Z"⟩
def dkwX0_isShelf_0 : List UInt8 := [26, 3, 5, 184, 0, 74, 172]
abbrev dktX0_isShelf_0 : List UInt8 := dkwX0_isShelf_0 ++ []
theorem dksX0_isShelf_0 : cX0_isShelf.data.toList.drop 0 = dktX0_isShelf_0 := by decide +kernel
theorem dX0_isShelf_0 : decode cX0_isShelf 0 = .ok (.iload_n 0, 1) := dk_26 (dk_at dksX0_isShelf_0 0 rfl rfl)
theorem dX0_isShelf_1 : decode cX0_isShelf 1 = .ok (.iconst 0, 1) := dk_3 (dk_at dksX0_isShelf_0 1 rfl rfl)
theorem dX0_isShelf_2 : decode cX0_isShelf 2 = .ok (.iconst 2, 1) := dk_5 (dk_at dksX0_isShelf_0 2 rfl rfl)
theorem dX0_isShelf_3 : decode cX0_isShelf 3 = .ok (.invokestatic 74, 3) := dk_184 0 74 (dk_at dksX0_isShelf_0 3 rfl rfl)
theorem dX0_isShelf_6 : decode cX0_isShelf 6 = .ok (.ireturn, 1) := dk_172 (dk_at dksX0_isShelf_0 6 rfl rfl)
abbrev MX0_isShelf : jjM := (yX0_isShelf, cX0_isShelf, 1, (Option.some Jvm.ClassFile.FieldType.boolean))
theorem npX0_isShelf : yX0_isShelf.cls ≠ "java/lang/invoke/MethodHandle" ∧ yX0_isShelf.cls ≠ "java/lang/invoke/VarHandle" ∧ (parseMethodDescriptor yX0_isShelf.desc).map (fun d => d.parameters.length) = some 1 := by decide +kernel
abbrev cX0_in : ByteArray := prog_1_method_1_code
def yX0_in : MethodName := ⟨RX0, "in", "(III)Z"⟩
def dkwX0_in_0 : List UInt8 := [26, 27, 161, 0, 12, 26, 28, 163, 0, 7, 4, 167, 0, 4, 3, 172]
abbrev dktX0_in_0 : List UInt8 := dkwX0_in_0 ++ []
theorem dksX0_in_0 : cX0_in.data.toList.drop 0 = dktX0_in_0 := by decide +kernel
theorem dX0_in_0 : decode cX0_in 0 = .ok (.iload_n 0, 1) := dk_26 (dk_at dksX0_in_0 0 rfl rfl)
theorem dX0_in_1 : decode cX0_in 1 = .ok (.iload_n 1, 1) := dk_27 (dk_at dksX0_in_0 1 rfl rfl)
theorem dX0_in_2 : decode cX0_in 2 = .ok (.if_icmp .lt 12, 3) := dk_161 0 12 (dk_at dksX0_in_0 2 rfl rfl)
theorem dX0_in_5 : decode cX0_in 5 = .ok (.iload_n 0, 1) := dk_26 (dk_at dksX0_in_0 5 rfl rfl)
theorem dX0_in_6 : decode cX0_in 6 = .ok (.iload_n 2, 1) := dk_28 (dk_at dksX0_in_0 6 rfl rfl)
theorem dX0_in_7 : decode cX0_in 7 = .ok (.if_icmp .gt 7, 3) := dk_163 0 7 (dk_at dksX0_in_0 7 rfl rfl)
theorem dX0_in_10 : decode cX0_in 10 = .ok (.iconst 1, 1) := dk_4 (dk_at dksX0_in_0 10 rfl rfl)
theorem dX0_in_11 : decode cX0_in 11 = .ok (.goto 4, 3) := dk_167 0 4 (dk_at dksX0_in_0 11 rfl rfl)
theorem dX0_in_14 : decode cX0_in 14 = .ok (.iconst 0, 1) := dk_3 (dk_at dksX0_in_0 14 rfl rfl)
theorem dX0_in_15 : decode cX0_in 15 = .ok (.ireturn, 1) := dk_172 (dk_at dksX0_in_0 15 rfl rfl)
abbrev MX0_in : jjM := (yX0_in, cX0_in, 3, (Option.some Jvm.ClassFile.FieldType.boolean))
theorem npX0_in : yX0_in.cls ≠ "java/lang/invoke/MethodHandle" ∧ yX0_in.cls ≠ "java/lang/invoke/VarHandle" ∧ (parseMethodDescriptor yX0_in.desc).map (fun d => d.parameters.length) = some 3 := by decide +kernel
abbrev cX0_fullOf : ByteArray := prog_1_method_23_code
def yX0_fullOf : MethodName := ⟨RX0, "fullOf", "(I)I"⟩
def dkwX0_fullOf_1 : List UInt8 := [182, 0, 192, 182, 0, 196, 96, 61, 132, 3, 1, 167, 255, 225, 28, 172]
abbrev dktX0_fullOf_1 : List UInt8 := dkwX0_fullOf_1 ++ []
def dkwX0_fullOf_0 : List UInt8 := [3, 61, 3, 62, 29, 42, 180, 0, 12, 27, 182, 0, 189, 162, 0, 25, 28, 42, 42, 180, 0, 12, 27, 29]
abbrev dktX0_fullOf_0 : List UInt8 := dkwX0_fullOf_0 ++ dktX0_fullOf_1
theorem dksX0_fullOf_0 : cX0_fullOf.data.toList.drop 0 = dktX0_fullOf_0 := by decide +kernel
theorem dksX0_fullOf_1 : cX0_fullOf.data.toList.drop 24 = dktX0_fullOf_1 := dk_seg dksX0_fullOf_0 24 rfl rfl
theorem dX0_fullOf_0 : decode cX0_fullOf 0 = .ok (.iconst 0, 1) := dk_3 (dk_at dksX0_fullOf_0 0 rfl rfl)
theorem dX0_fullOf_1 : decode cX0_fullOf 1 = .ok (.istore_n 2, 1) := dk_61 (dk_at dksX0_fullOf_0 1 rfl rfl)
theorem dX0_fullOf_2 : decode cX0_fullOf 2 = .ok (.iconst 0, 1) := dk_3 (dk_at dksX0_fullOf_0 2 rfl rfl)
theorem dX0_fullOf_3 : decode cX0_fullOf 3 = .ok (.istore_n 3, 1) := dk_62 (dk_at dksX0_fullOf_0 3 rfl rfl)
theorem dX0_fullOf_4 : decode cX0_fullOf 4 = .ok (.iload_n 3, 1) := dk_29 (dk_at dksX0_fullOf_0 4 rfl rfl)
theorem dX0_fullOf_5 : decode cX0_fullOf 5 = .ok (.aload_n 0, 1) := dk_42 (dk_at dksX0_fullOf_0 5 rfl rfl)
theorem dX0_fullOf_6 : decode cX0_fullOf 6 = .ok (.getfield 12, 3) := dk_180 0 12 (dk_at dksX0_fullOf_0 6 rfl rfl)
theorem dX0_fullOf_9 : decode cX0_fullOf 9 = .ok (.iload_n 1, 1) := dk_27 (dk_at dksX0_fullOf_0 9 rfl rfl)
theorem dX0_fullOf_10 : decode cX0_fullOf 10 = .ok (.invokevirtual 189, 3) := dk_182 0 189 (dk_at dksX0_fullOf_0 10 rfl rfl)
theorem dX0_fullOf_13 : decode cX0_fullOf 13 = .ok (.if_icmp .ge 25, 3) := dk_162 0 25 (dk_at dksX0_fullOf_0 13 rfl rfl)
theorem dX0_fullOf_16 : decode cX0_fullOf 16 = .ok (.iload_n 2, 1) := dk_28 (dk_at dksX0_fullOf_0 16 rfl rfl)
theorem dX0_fullOf_17 : decode cX0_fullOf 17 = .ok (.aload_n 0, 1) := dk_42 (dk_at dksX0_fullOf_0 17 rfl rfl)
theorem dX0_fullOf_18 : decode cX0_fullOf 18 = .ok (.aload_n 0, 1) := dk_42 (dk_at dksX0_fullOf_0 18 rfl rfl)
theorem dX0_fullOf_19 : decode cX0_fullOf 19 = .ok (.getfield 12, 3) := dk_180 0 12 (dk_at dksX0_fullOf_0 19 rfl rfl)
theorem dX0_fullOf_22 : decode cX0_fullOf 22 = .ok (.iload_n 1, 1) := dk_27 (dk_at dksX0_fullOf_0 22 rfl rfl)
theorem dX0_fullOf_23 : decode cX0_fullOf 23 = .ok (.iload_n 3, 1) := dk_29 (dk_at dksX0_fullOf_0 23 rfl rfl)
theorem dX0_fullOf_24 : decode cX0_fullOf 24 = .ok (.invokevirtual 192, 3) := dk_182 0 192 (dk_at dksX0_fullOf_1 0 rfl rfl)
theorem dX0_fullOf_27 : decode cX0_fullOf 27 = .ok (.invokevirtual 196, 3) := dk_182 0 196 (dk_at dksX0_fullOf_1 3 rfl rfl)
theorem dX0_fullOf_30 : decode cX0_fullOf 30 = .ok (.iadd, 1) := dk_96 (dk_at dksX0_fullOf_1 6 rfl rfl)
theorem dX0_fullOf_31 : decode cX0_fullOf 31 = .ok (.istore_n 2, 1) := dk_61 (dk_at dksX0_fullOf_1 7 rfl rfl)
theorem dX0_fullOf_32 : decode cX0_fullOf 32 = .ok (.iinc 3 1, 3) := dk_132 3 1 (dk_at dksX0_fullOf_1 8 rfl rfl)
theorem dX0_fullOf_35 : decode cX0_fullOf 35 = .ok (.goto (-31), 3) := dk_167 255 225 (dk_at dksX0_fullOf_1 11 rfl rfl)
theorem dX0_fullOf_38 : decode cX0_fullOf 38 = .ok (.iload_n 2, 1) := dk_28 (dk_at dksX0_fullOf_1 14 rfl rfl)
theorem dX0_fullOf_39 : decode cX0_fullOf 39 = .ok (.ireturn, 1) := dk_172 (dk_at dksX0_fullOf_1 15 rfl rfl)
abbrev MX0_fullOf : jjM := (yX0_fullOf, cX0_fullOf, 4, (Option.some Jvm.ClassFile.FieldType.int))
theorem npX0_fullOf : yX0_fullOf.cls ≠ "java/lang/invoke/MethodHandle" ∧ yX0_fullOf.cls ≠ "java/lang/invoke/VarHandle" ∧ (parseMethodDescriptor yX0_fullOf.desc).map (fun d => d.parameters.length) = some 1 := by decide +kernel
abbrev cX0_thickNow : ByteArray := prog_1_method_22_code
def yX0_thickNow : MethodName := ⟨RX0, "thickNow", "(I)I"⟩
def dkwX0_thickNow_3 : List UInt8 := [28, 96, 172]
abbrev dktX0_thickNow_3 : List UInt8 := dkwX0_thickNow_3 ++ []
def dkwX0_thickNow_2 : List UInt8 := [185, 0, 174, 2, 0, 184, 0, 180, 184, 0, 186, 136, 61, 42, 180, 0, 12, 180, 0, 96, 27, 50, 5, 46]
abbrev dktX0_thickNow_2 : List UInt8 := dkwX0_thickNow_2 ++ dktX0_thickNow_3
def dkwX0_thickNow_1 : List UInt8 := [198, 0, 36, 42, 27, 182, 0, 151, 9, 20, 0, 172, 42, 182, 0, 142, 180, 0, 168, 42, 180, 0, 30]
abbrev dktX0_thickNow_1 : List UInt8 := dkwX0_thickNow_1 ++ dktX0_thickNow_2
def dkwX0_thickNow_0 : List UInt8 := [3, 61, 42, 180, 0, 12, 180, 0, 78, 16, 43, 46, 4, 160, 0, 46, 42, 182, 0, 142, 180, 0, 168]
abbrev dktX0_thickNow_0 : List UInt8 := dkwX0_thickNow_0 ++ dktX0_thickNow_1
theorem dksX0_thickNow_0 : cX0_thickNow.data.toList.drop 0 = dktX0_thickNow_0 := by decide +kernel
theorem dksX0_thickNow_1 : cX0_thickNow.data.toList.drop 23 = dktX0_thickNow_1 := dk_seg dksX0_thickNow_0 23 rfl rfl
theorem dksX0_thickNow_2 : cX0_thickNow.data.toList.drop 46 = dktX0_thickNow_2 := dk_seg dksX0_thickNow_1 23 rfl rfl
theorem dksX0_thickNow_3 : cX0_thickNow.data.toList.drop 70 = dktX0_thickNow_3 := dk_seg dksX0_thickNow_2 24 rfl rfl
theorem dX0_thickNow_0 : decode cX0_thickNow 0 = .ok (.iconst 0, 1) := dk_3 (dk_at dksX0_thickNow_0 0 rfl rfl)
theorem dX0_thickNow_1 : decode cX0_thickNow 1 = .ok (.istore_n 2, 1) := dk_61 (dk_at dksX0_thickNow_0 1 rfl rfl)
theorem dX0_thickNow_2 : decode cX0_thickNow 2 = .ok (.aload_n 0, 1) := dk_42 (dk_at dksX0_thickNow_0 2 rfl rfl)
theorem dX0_thickNow_3 : decode cX0_thickNow 3 = .ok (.getfield 12, 3) := dk_180 0 12 (dk_at dksX0_thickNow_0 3 rfl rfl)
theorem dX0_thickNow_6 : decode cX0_thickNow 6 = .ok (.getfield 78, 3) := dk_180 0 78 (dk_at dksX0_thickNow_0 6 rfl rfl)
theorem dX0_thickNow_9 : decode cX0_thickNow 9 = .ok (.bipush 43, 2) := dk_16 43 (dk_at dksX0_thickNow_0 9 rfl rfl)
theorem dX0_thickNow_11 : decode cX0_thickNow 11 = .ok (.iaload, 1) := dk_46 (dk_at dksX0_thickNow_0 11 rfl rfl)
theorem dX0_thickNow_12 : decode cX0_thickNow 12 = .ok (.iconst 1, 1) := dk_4 (dk_at dksX0_thickNow_0 12 rfl rfl)
theorem dX0_thickNow_13 : decode cX0_thickNow 13 = .ok (.if_icmp .ne 46, 3) := dk_160 0 46 (dk_at dksX0_thickNow_0 13 rfl rfl)
theorem dX0_thickNow_16 : decode cX0_thickNow 16 = .ok (.aload_n 0, 1) := dk_42 (dk_at dksX0_thickNow_0 16 rfl rfl)
theorem dX0_thickNow_17 : decode cX0_thickNow 17 = .ok (.invokevirtual 142, 3) := dk_182 0 142 (dk_at dksX0_thickNow_0 17 rfl rfl)
theorem dX0_thickNow_20 : decode cX0_thickNow 20 = .ok (.getfield 168, 3) := dk_180 0 168 (dk_at dksX0_thickNow_0 20 rfl rfl)
theorem dX0_thickNow_23 : decode cX0_thickNow 23 = .ok (.ifnull 36, 3) := dk_198 0 36 (dk_at dksX0_thickNow_1 0 rfl rfl)
theorem dX0_thickNow_26 : decode cX0_thickNow 26 = .ok (.aload_n 0, 1) := dk_42 (dk_at dksX0_thickNow_1 3 rfl rfl)
theorem dX0_thickNow_27 : decode cX0_thickNow 27 = .ok (.iload_n 1, 1) := dk_27 (dk_at dksX0_thickNow_1 4 rfl rfl)
theorem dX0_thickNow_28 : decode cX0_thickNow 28 = .ok (.invokevirtual 151, 3) := dk_182 0 151 (dk_at dksX0_thickNow_1 5 rfl rfl)
theorem dX0_thickNow_31 : decode cX0_thickNow 31 = .ok (.lconst 0, 1) := dk_9 (dk_at dksX0_thickNow_1 8 rfl rfl)
theorem dX0_thickNow_32 : decode cX0_thickNow 32 = .ok (.ldc2_w 172, 3) := dk_20 0 172 (dk_at dksX0_thickNow_1 9 rfl rfl)
theorem dX0_thickNow_35 : decode cX0_thickNow 35 = .ok (.aload_n 0, 1) := dk_42 (dk_at dksX0_thickNow_1 12 rfl rfl)
theorem dX0_thickNow_36 : decode cX0_thickNow 36 = .ok (.invokevirtual 142, 3) := dk_182 0 142 (dk_at dksX0_thickNow_1 13 rfl rfl)
theorem dX0_thickNow_39 : decode cX0_thickNow 39 = .ok (.getfield 168, 3) := dk_180 0 168 (dk_at dksX0_thickNow_1 16 rfl rfl)
theorem dX0_thickNow_42 : decode cX0_thickNow 42 = .ok (.aload_n 0, 1) := dk_42 (dk_at dksX0_thickNow_1 19 rfl rfl)
theorem dX0_thickNow_43 : decode cX0_thickNow 43 = .ok (.getfield 30, 3) := dk_180 0 30 (dk_at dksX0_thickNow_1 20 rfl rfl)
theorem dX0_thickNow_46 : decode cX0_thickNow 46 = .ok (.invokeinterface 174 2, 5) := by decide +kernel
theorem dX0_thickNow_51 : decode cX0_thickNow 51 = .ok (.invokestatic 180, 3) := dk_184 0 180 (dk_at dksX0_thickNow_2 5 rfl rfl)
theorem dX0_thickNow_54 : decode cX0_thickNow 54 = .ok (.invokestatic 186, 3) := dk_184 0 186 (dk_at dksX0_thickNow_2 8 rfl rfl)
theorem dX0_thickNow_57 : decode cX0_thickNow 57 = .ok (.l2i, 1) := dk_136 (dk_at dksX0_thickNow_2 11 rfl rfl)
theorem dX0_thickNow_58 : decode cX0_thickNow 58 = .ok (.istore_n 2, 1) := dk_61 (dk_at dksX0_thickNow_2 12 rfl rfl)
theorem dX0_thickNow_59 : decode cX0_thickNow 59 = .ok (.aload_n 0, 1) := dk_42 (dk_at dksX0_thickNow_2 13 rfl rfl)
theorem dX0_thickNow_60 : decode cX0_thickNow 60 = .ok (.getfield 12, 3) := dk_180 0 12 (dk_at dksX0_thickNow_2 14 rfl rfl)
theorem dX0_thickNow_63 : decode cX0_thickNow 63 = .ok (.getfield 96, 3) := dk_180 0 96 (dk_at dksX0_thickNow_2 17 rfl rfl)
theorem dX0_thickNow_66 : decode cX0_thickNow 66 = .ok (.iload_n 1, 1) := dk_27 (dk_at dksX0_thickNow_2 20 rfl rfl)
theorem dX0_thickNow_67 : decode cX0_thickNow 67 = .ok (.aaload, 1) := dk_50 (dk_at dksX0_thickNow_2 21 rfl rfl)
theorem dX0_thickNow_68 : decode cX0_thickNow 68 = .ok (.iconst 2, 1) := dk_5 (dk_at dksX0_thickNow_2 22 rfl rfl)
theorem dX0_thickNow_69 : decode cX0_thickNow 69 = .ok (.iaload, 1) := dk_46 (dk_at dksX0_thickNow_2 23 rfl rfl)
theorem dX0_thickNow_70 : decode cX0_thickNow 70 = .ok (.iload_n 2, 1) := dk_28 (dk_at dksX0_thickNow_3 0 rfl rfl)
theorem dX0_thickNow_71 : decode cX0_thickNow 71 = .ok (.iadd, 1) := dk_96 (dk_at dksX0_thickNow_3 1 rfl rfl)
theorem dX0_thickNow_72 : decode cX0_thickNow 72 = .ok (.ireturn, 1) := dk_172 (dk_at dksX0_thickNow_3 2 rfl rfl)
abbrev MX0_thickNow : jjM := (yX0_thickNow, cX0_thickNow, 3, (Option.some Jvm.ClassFile.FieldType.int))
theorem npX0_thickNow : yX0_thickNow.cls ≠ "java/lang/invoke/MethodHandle" ∧ yX0_thickNow.cls ≠ "java/lang/invoke/VarHandle" ∧ (parseMethodDescriptor yX0_thickNow.desc).map (fun d => d.parameters.length) = some 1 := by decide +kernel
abbrev cX0_rules : ByteArray := prog_1_method_17_code
def yX0_rules : MethodName := ⟨RX0, "rules", "()LSelfSorting$Text;"⟩
def dkwX0_rules_1 : List UInt8 := [180, 0, 110, 42, 180, 0, 12, 180, 0, 71, 6, 46, 50, 176]
abbrev dktX0_rules_1 : List UInt8 := dkwX0_rules_1 ++ []
def dkwX0_rules_0 : List UInt8 := [42, 180, 0, 12, 180, 0, 71, 6, 46, 2, 160, 0, 9, 178, 0, 132, 167, 0, 20, 42, 180, 0, 12]
abbrev dktX0_rules_0 : List UInt8 := dkwX0_rules_0 ++ dktX0_rules_1
theorem dksX0_rules_0 : cX0_rules.data.toList.drop 0 = dktX0_rules_0 := by decide +kernel
theorem dksX0_rules_1 : cX0_rules.data.toList.drop 23 = dktX0_rules_1 := dk_seg dksX0_rules_0 23 rfl rfl
theorem dX0_rules_0 : decode cX0_rules 0 = .ok (.aload_n 0, 1) := dk_42 (dk_at dksX0_rules_0 0 rfl rfl)
theorem dX0_rules_1 : decode cX0_rules 1 = .ok (.getfield 12, 3) := dk_180 0 12 (dk_at dksX0_rules_0 1 rfl rfl)
theorem dX0_rules_4 : decode cX0_rules 4 = .ok (.getfield 71, 3) := dk_180 0 71 (dk_at dksX0_rules_0 4 rfl rfl)
theorem dX0_rules_7 : decode cX0_rules 7 = .ok (.iconst 3, 1) := dk_6 (dk_at dksX0_rules_0 7 rfl rfl)
theorem dX0_rules_8 : decode cX0_rules 8 = .ok (.iaload, 1) := dk_46 (dk_at dksX0_rules_0 8 rfl rfl)
theorem dX0_rules_9 : decode cX0_rules 9 = .ok (.iconst (-1), 1) := dk_2 (dk_at dksX0_rules_0 9 rfl rfl)
theorem dX0_rules_10 : decode cX0_rules 10 = .ok (.if_icmp .ne 9, 3) := dk_160 0 9 (dk_at dksX0_rules_0 10 rfl rfl)
theorem dX0_rules_13 : decode cX0_rules 13 = .ok (.getstatic 132, 3) := dk_178 0 132 (dk_at dksX0_rules_0 13 rfl rfl)
theorem dX0_rules_16 : decode cX0_rules 16 = .ok (.goto 20, 3) := dk_167 0 20 (dk_at dksX0_rules_0 16 rfl rfl)
theorem dX0_rules_19 : decode cX0_rules 19 = .ok (.aload_n 0, 1) := dk_42 (dk_at dksX0_rules_0 19 rfl rfl)
theorem dX0_rules_20 : decode cX0_rules 20 = .ok (.getfield 12, 3) := dk_180 0 12 (dk_at dksX0_rules_0 20 rfl rfl)
theorem dX0_rules_23 : decode cX0_rules 23 = .ok (.getfield 110, 3) := dk_180 0 110 (dk_at dksX0_rules_1 0 rfl rfl)
theorem dX0_rules_26 : decode cX0_rules 26 = .ok (.aload_n 0, 1) := dk_42 (dk_at dksX0_rules_1 3 rfl rfl)
theorem dX0_rules_27 : decode cX0_rules 27 = .ok (.getfield 12, 3) := dk_180 0 12 (dk_at dksX0_rules_1 4 rfl rfl)
theorem dX0_rules_30 : decode cX0_rules 30 = .ok (.getfield 71, 3) := dk_180 0 71 (dk_at dksX0_rules_1 7 rfl rfl)
theorem dX0_rules_33 : decode cX0_rules 33 = .ok (.iconst 3, 1) := dk_6 (dk_at dksX0_rules_1 10 rfl rfl)
theorem dX0_rules_34 : decode cX0_rules 34 = .ok (.iaload, 1) := dk_46 (dk_at dksX0_rules_1 11 rfl rfl)
theorem dX0_rules_35 : decode cX0_rules 35 = .ok (.aaload, 1) := dk_50 (dk_at dksX0_rules_1 12 rfl rfl)
theorem dX0_rules_36 : decode cX0_rules 36 = .ok (.areturn, 1) := dk_176 (dk_at dksX0_rules_1 13 rfl rfl)
abbrev MX0_rules : jjM := (yX0_rules, cX0_rules, 1, (Option.some (Jvm.ClassFile.FieldType.object "SelfSorting$Text")))
theorem npX0_rules : yX0_rules.cls ≠ "java/lang/invoke/MethodHandle" ∧ yX0_rules.cls ≠ "java/lang/invoke/VarHandle" ∧ (parseMethodDescriptor yX0_rules.desc).map (fun d => d.parameters.length) = some 0 := by decide +kernel
abbrev cX0_namesOwn : ByteArray := prog_1_method_18_code
def yX0_namesOwn : MethodName := ⟨RX0, "namesOwn", "(I)V"⟩
def dkwX0_namesOwn_1 : List UInt8 := [184, 0, 136, 42, 180, 0, 30, 8, 42, 180, 0, 12, 180, 0, 78, 16, 43, 46, 79, 177]
abbrev dktX0_namesOwn_1 : List UInt8 := dkwX0_namesOwn_1 ++ []
def dkwX0_namesOwn_0 : List UInt8 := [42, 180, 0, 30, 3, 27, 79, 42, 180, 0, 12, 180, 0, 96, 27, 50, 3, 42, 180, 0, 30, 4, 7]
abbrev dktX0_namesOwn_0 : List UInt8 := dkwX0_namesOwn_0 ++ dktX0_namesOwn_1
theorem dksX0_namesOwn_0 : cX0_namesOwn.data.toList.drop 0 = dktX0_namesOwn_0 := by decide +kernel
theorem dksX0_namesOwn_1 : cX0_namesOwn.data.toList.drop 23 = dktX0_namesOwn_1 := dk_seg dksX0_namesOwn_0 23 rfl rfl
theorem dX0_namesOwn_0 : decode cX0_namesOwn 0 = .ok (.aload_n 0, 1) := dk_42 (dk_at dksX0_namesOwn_0 0 rfl rfl)
theorem dX0_namesOwn_1 : decode cX0_namesOwn 1 = .ok (.getfield 30, 3) := dk_180 0 30 (dk_at dksX0_namesOwn_0 1 rfl rfl)
theorem dX0_namesOwn_4 : decode cX0_namesOwn 4 = .ok (.iconst 0, 1) := dk_3 (dk_at dksX0_namesOwn_0 4 rfl rfl)
theorem dX0_namesOwn_5 : decode cX0_namesOwn 5 = .ok (.iload_n 1, 1) := dk_27 (dk_at dksX0_namesOwn_0 5 rfl rfl)
theorem dX0_namesOwn_6 : decode cX0_namesOwn 6 = .ok (.iastore, 1) := dk_79 (dk_at dksX0_namesOwn_0 6 rfl rfl)
theorem dX0_namesOwn_7 : decode cX0_namesOwn 7 = .ok (.aload_n 0, 1) := dk_42 (dk_at dksX0_namesOwn_0 7 rfl rfl)
theorem dX0_namesOwn_8 : decode cX0_namesOwn 8 = .ok (.getfield 12, 3) := dk_180 0 12 (dk_at dksX0_namesOwn_0 8 rfl rfl)
theorem dX0_namesOwn_11 : decode cX0_namesOwn 11 = .ok (.getfield 96, 3) := dk_180 0 96 (dk_at dksX0_namesOwn_0 11 rfl rfl)
theorem dX0_namesOwn_14 : decode cX0_namesOwn 14 = .ok (.iload_n 1, 1) := dk_27 (dk_at dksX0_namesOwn_0 14 rfl rfl)
theorem dX0_namesOwn_15 : decode cX0_namesOwn 15 = .ok (.aaload, 1) := dk_50 (dk_at dksX0_namesOwn_0 15 rfl rfl)
theorem dX0_namesOwn_16 : decode cX0_namesOwn 16 = .ok (.iconst 0, 1) := dk_3 (dk_at dksX0_namesOwn_0 16 rfl rfl)
theorem dX0_namesOwn_17 : decode cX0_namesOwn 17 = .ok (.aload_n 0, 1) := dk_42 (dk_at dksX0_namesOwn_0 17 rfl rfl)
theorem dX0_namesOwn_18 : decode cX0_namesOwn 18 = .ok (.getfield 30, 3) := dk_180 0 30 (dk_at dksX0_namesOwn_0 18 rfl rfl)
theorem dX0_namesOwn_21 : decode cX0_namesOwn 21 = .ok (.iconst 1, 1) := dk_4 (dk_at dksX0_namesOwn_0 21 rfl rfl)
theorem dX0_namesOwn_22 : decode cX0_namesOwn 22 = .ok (.iconst 4, 1) := dk_7 (dk_at dksX0_namesOwn_0 22 rfl rfl)
theorem dX0_namesOwn_23 : decode cX0_namesOwn 23 = .ok (.invokestatic 136, 3) := dk_184 0 136 (dk_at dksX0_namesOwn_1 0 rfl rfl)
theorem dX0_namesOwn_26 : decode cX0_namesOwn 26 = .ok (.aload_n 0, 1) := dk_42 (dk_at dksX0_namesOwn_1 3 rfl rfl)
theorem dX0_namesOwn_27 : decode cX0_namesOwn 27 = .ok (.getfield 30, 3) := dk_180 0 30 (dk_at dksX0_namesOwn_1 4 rfl rfl)
theorem dX0_namesOwn_30 : decode cX0_namesOwn 30 = .ok (.iconst 5, 1) := dk_8 (dk_at dksX0_namesOwn_1 7 rfl rfl)
theorem dX0_namesOwn_31 : decode cX0_namesOwn 31 = .ok (.aload_n 0, 1) := dk_42 (dk_at dksX0_namesOwn_1 8 rfl rfl)
theorem dX0_namesOwn_32 : decode cX0_namesOwn 32 = .ok (.getfield 12, 3) := dk_180 0 12 (dk_at dksX0_namesOwn_1 9 rfl rfl)
theorem dX0_namesOwn_35 : decode cX0_namesOwn 35 = .ok (.getfield 78, 3) := dk_180 0 78 (dk_at dksX0_namesOwn_1 12 rfl rfl)
theorem dX0_namesOwn_38 : decode cX0_namesOwn 38 = .ok (.bipush 43, 2) := dk_16 43 (dk_at dksX0_namesOwn_1 15 rfl rfl)
theorem dX0_namesOwn_40 : decode cX0_namesOwn 40 = .ok (.iaload, 1) := dk_46 (dk_at dksX0_namesOwn_1 17 rfl rfl)
theorem dX0_namesOwn_41 : decode cX0_namesOwn 41 = .ok (.iastore, 1) := dk_79 (dk_at dksX0_namesOwn_1 18 rfl rfl)
theorem dX0_namesOwn_42 : decode cX0_namesOwn 42 = .ok (.return_, 1) := dk_177 (dk_at dksX0_namesOwn_1 19 rfl rfl)
abbrev MX0_namesOwn : jjM := (yX0_namesOwn, cX0_namesOwn, 2, (Option.none : Option Jvm.ClassFile.FieldType))
theorem npX0_namesOwn : yX0_namesOwn.cls ≠ "java/lang/invoke/MethodHandle" ∧ yX0_namesOwn.cls ≠ "java/lang/invoke/VarHandle" ∧ (parseMethodDescriptor yX0_namesOwn.desc).map (fun d => d.parameters.length) = some 1 := by decide +kernel
abbrev cX0_book : ByteArray := prog_1_method_8_code
def yX0_book : MethodName := ⟨RX0, "book", "(IIIII)I"⟩
def dkwX0_book_5 : List UInt8 := [180, 0, 71, 3, 92, 46, 4, 96, 79, 21, 6, 172]
abbrev dktX0_book_5 : List UInt8 := dkwX0_book_5 ++ []
def dkwX0_book_4 : List UInt8 := [21, 5, 79, 58, 7, 25, 7, 42, 180, 0, 12, 180, 0, 96, 21, 6, 50, 184, 0, 99, 42, 180, 0, 12]
abbrev dktX0_book_4 : List UInt8 := dkwX0_book_4 ++ dktX0_book_5
def dkwX0_book_3 : List UInt8 := [172, 8, 188, 10, 89, 3, 27, 79, 89, 4, 28, 79, 89, 5, 29, 79, 89, 6, 21, 4, 79, 89, 7]
abbrev dktX0_book_3 : List UInt8 := dkwX0_book_3 ++ dktX0_book_4
def dkwX0_book_2 : List UInt8 := [184, 0, 74, 153, 0, 20, 21, 5, 3, 8, 184, 0, 74, 153, 0, 10, 21, 6, 16, 10, 160, 0, 5, 2]
abbrev dktX0_book_2 : List UInt8 := dkwX0_book_2 ++ dktX0_book_3
def dkwX0_book_1 : List UInt8 := [16, 9, 184, 0, 74, 153, 0, 41, 29, 4, 16, 9, 184, 0, 74, 153, 0, 31, 21, 4, 3, 16, 9]
abbrev dktX0_book_1 : List UInt8 := dkwX0_book_1 ++ dktX0_book_2
def dkwX0_book_0 : List UInt8 := [42, 180, 0, 12, 180, 0, 71, 3, 46, 54, 6, 27, 3, 16, 9, 184, 0, 74, 153, 0, 51, 28, 3]
abbrev dktX0_book_0 : List UInt8 := dkwX0_book_0 ++ dktX0_book_1
theorem dksX0_book_0 : cX0_book.data.toList.drop 0 = dktX0_book_0 := by decide +kernel
theorem dksX0_book_1 : cX0_book.data.toList.drop 23 = dktX0_book_1 := dk_seg dksX0_book_0 23 rfl rfl
theorem dksX0_book_2 : cX0_book.data.toList.drop 46 = dktX0_book_2 := dk_seg dksX0_book_1 23 rfl rfl
theorem dksX0_book_3 : cX0_book.data.toList.drop 70 = dktX0_book_3 := dk_seg dksX0_book_2 24 rfl rfl
theorem dksX0_book_4 : cX0_book.data.toList.drop 93 = dktX0_book_4 := dk_seg dksX0_book_3 23 rfl rfl
theorem dksX0_book_5 : cX0_book.data.toList.drop 117 = dktX0_book_5 := dk_seg dksX0_book_4 24 rfl rfl
theorem dX0_book_0 : decode cX0_book 0 = .ok (.aload_n 0, 1) := dk_42 (dk_at dksX0_book_0 0 rfl rfl)
theorem dX0_book_1 : decode cX0_book 1 = .ok (.getfield 12, 3) := dk_180 0 12 (dk_at dksX0_book_0 1 rfl rfl)
theorem dX0_book_4 : decode cX0_book 4 = .ok (.getfield 71, 3) := dk_180 0 71 (dk_at dksX0_book_0 4 rfl rfl)
theorem dX0_book_7 : decode cX0_book 7 = .ok (.iconst 0, 1) := dk_3 (dk_at dksX0_book_0 7 rfl rfl)
theorem dX0_book_8 : decode cX0_book 8 = .ok (.iaload, 1) := dk_46 (dk_at dksX0_book_0 8 rfl rfl)
theorem dX0_book_9 : decode cX0_book 9 = .ok (.istore 6, 2) := dk_54 6 (dk_at dksX0_book_0 9 rfl rfl)
theorem dX0_book_11 : decode cX0_book 11 = .ok (.iload_n 1, 1) := dk_27 (dk_at dksX0_book_0 11 rfl rfl)
theorem dX0_book_12 : decode cX0_book 12 = .ok (.iconst 0, 1) := dk_3 (dk_at dksX0_book_0 12 rfl rfl)
theorem dX0_book_13 : decode cX0_book 13 = .ok (.bipush 9, 2) := dk_16 9 (dk_at dksX0_book_0 13 rfl rfl)
theorem dX0_book_15 : decode cX0_book 15 = .ok (.invokestatic 74, 3) := dk_184 0 74 (dk_at dksX0_book_0 15 rfl rfl)
theorem dX0_book_18 : decode cX0_book 18 = .ok (.ifCond .eq 51, 3) := dk_153 0 51 (dk_at dksX0_book_0 18 rfl rfl)
theorem dX0_book_21 : decode cX0_book 21 = .ok (.iload_n 2, 1) := dk_28 (dk_at dksX0_book_0 21 rfl rfl)
theorem dX0_book_22 : decode cX0_book 22 = .ok (.iconst 0, 1) := dk_3 (dk_at dksX0_book_0 22 rfl rfl)
theorem dX0_book_23 : decode cX0_book 23 = .ok (.bipush 9, 2) := dk_16 9 (dk_at dksX0_book_1 0 rfl rfl)
theorem dX0_book_25 : decode cX0_book 25 = .ok (.invokestatic 74, 3) := dk_184 0 74 (dk_at dksX0_book_1 2 rfl rfl)
theorem dX0_book_28 : decode cX0_book 28 = .ok (.ifCond .eq 41, 3) := dk_153 0 41 (dk_at dksX0_book_1 5 rfl rfl)
theorem dX0_book_31 : decode cX0_book 31 = .ok (.iload_n 3, 1) := dk_29 (dk_at dksX0_book_1 8 rfl rfl)
theorem dX0_book_32 : decode cX0_book 32 = .ok (.iconst 1, 1) := dk_4 (dk_at dksX0_book_1 9 rfl rfl)
theorem dX0_book_33 : decode cX0_book 33 = .ok (.bipush 9, 2) := dk_16 9 (dk_at dksX0_book_1 10 rfl rfl)
theorem dX0_book_35 : decode cX0_book 35 = .ok (.invokestatic 74, 3) := dk_184 0 74 (dk_at dksX0_book_1 12 rfl rfl)
theorem dX0_book_38 : decode cX0_book 38 = .ok (.ifCond .eq 31, 3) := dk_153 0 31 (dk_at dksX0_book_1 15 rfl rfl)
theorem dX0_book_41 : decode cX0_book 41 = .ok (.iload 4, 2) := dk_21 4 (dk_at dksX0_book_1 18 rfl rfl)
theorem dX0_book_43 : decode cX0_book 43 = .ok (.iconst 0, 1) := dk_3 (dk_at dksX0_book_1 20 rfl rfl)
theorem dX0_book_44 : decode cX0_book 44 = .ok (.bipush 9, 2) := dk_16 9 (dk_at dksX0_book_1 21 rfl rfl)
theorem dX0_book_46 : decode cX0_book 46 = .ok (.invokestatic 74, 3) := dk_184 0 74 (dk_at dksX0_book_2 0 rfl rfl)
theorem dX0_book_49 : decode cX0_book 49 = .ok (.ifCond .eq 20, 3) := dk_153 0 20 (dk_at dksX0_book_2 3 rfl rfl)
theorem dX0_book_52 : decode cX0_book 52 = .ok (.iload 5, 2) := dk_21 5 (dk_at dksX0_book_2 6 rfl rfl)
theorem dX0_book_54 : decode cX0_book 54 = .ok (.iconst 0, 1) := dk_3 (dk_at dksX0_book_2 8 rfl rfl)
theorem dX0_book_55 : decode cX0_book 55 = .ok (.iconst 5, 1) := dk_8 (dk_at dksX0_book_2 9 rfl rfl)
theorem dX0_book_56 : decode cX0_book 56 = .ok (.invokestatic 74, 3) := dk_184 0 74 (dk_at dksX0_book_2 10 rfl rfl)
theorem dX0_book_59 : decode cX0_book 59 = .ok (.ifCond .eq 10, 3) := dk_153 0 10 (dk_at dksX0_book_2 13 rfl rfl)
theorem dX0_book_62 : decode cX0_book 62 = .ok (.iload 6, 2) := dk_21 6 (dk_at dksX0_book_2 16 rfl rfl)
theorem dX0_book_64 : decode cX0_book 64 = .ok (.bipush 10, 2) := dk_16 10 (dk_at dksX0_book_2 18 rfl rfl)
theorem dX0_book_66 : decode cX0_book 66 = .ok (.if_icmp .ne 5, 3) := dk_160 0 5 (dk_at dksX0_book_2 20 rfl rfl)
theorem dX0_book_69 : decode cX0_book 69 = .ok (.iconst (-1), 1) := dk_2 (dk_at dksX0_book_2 23 rfl rfl)
theorem dX0_book_70 : decode cX0_book 70 = .ok (.ireturn, 1) := dk_172 (dk_at dksX0_book_3 0 rfl rfl)
theorem dX0_book_71 : decode cX0_book 71 = .ok (.iconst 5, 1) := dk_8 (dk_at dksX0_book_3 1 rfl rfl)
theorem dX0_book_72 : decode cX0_book 72 = .ok (.newarray .int, 2) := dk_188_10 (dk_at dksX0_book_3 2 rfl rfl)
theorem dX0_book_74 : decode cX0_book 74 = .ok (.dup, 1) := dk_89 (dk_at dksX0_book_3 4 rfl rfl)
theorem dX0_book_75 : decode cX0_book 75 = .ok (.iconst 0, 1) := dk_3 (dk_at dksX0_book_3 5 rfl rfl)
theorem dX0_book_76 : decode cX0_book 76 = .ok (.iload_n 1, 1) := dk_27 (dk_at dksX0_book_3 6 rfl rfl)
theorem dX0_book_77 : decode cX0_book 77 = .ok (.iastore, 1) := dk_79 (dk_at dksX0_book_3 7 rfl rfl)
theorem dX0_book_78 : decode cX0_book 78 = .ok (.dup, 1) := dk_89 (dk_at dksX0_book_3 8 rfl rfl)
theorem dX0_book_79 : decode cX0_book 79 = .ok (.iconst 1, 1) := dk_4 (dk_at dksX0_book_3 9 rfl rfl)
theorem dX0_book_80 : decode cX0_book 80 = .ok (.iload_n 2, 1) := dk_28 (dk_at dksX0_book_3 10 rfl rfl)
theorem dX0_book_81 : decode cX0_book 81 = .ok (.iastore, 1) := dk_79 (dk_at dksX0_book_3 11 rfl rfl)
theorem dX0_book_82 : decode cX0_book 82 = .ok (.dup, 1) := dk_89 (dk_at dksX0_book_3 12 rfl rfl)
theorem dX0_book_83 : decode cX0_book 83 = .ok (.iconst 2, 1) := dk_5 (dk_at dksX0_book_3 13 rfl rfl)
theorem dX0_book_84 : decode cX0_book 84 = .ok (.iload_n 3, 1) := dk_29 (dk_at dksX0_book_3 14 rfl rfl)
theorem dX0_book_85 : decode cX0_book 85 = .ok (.iastore, 1) := dk_79 (dk_at dksX0_book_3 15 rfl rfl)
theorem dX0_book_86 : decode cX0_book 86 = .ok (.dup, 1) := dk_89 (dk_at dksX0_book_3 16 rfl rfl)
theorem dX0_book_87 : decode cX0_book 87 = .ok (.iconst 3, 1) := dk_6 (dk_at dksX0_book_3 17 rfl rfl)
theorem dX0_book_88 : decode cX0_book 88 = .ok (.iload 4, 2) := dk_21 4 (dk_at dksX0_book_3 18 rfl rfl)
theorem dX0_book_90 : decode cX0_book 90 = .ok (.iastore, 1) := dk_79 (dk_at dksX0_book_3 20 rfl rfl)
theorem dX0_book_91 : decode cX0_book 91 = .ok (.dup, 1) := dk_89 (dk_at dksX0_book_3 21 rfl rfl)
theorem dX0_book_92 : decode cX0_book 92 = .ok (.iconst 4, 1) := dk_7 (dk_at dksX0_book_3 22 rfl rfl)
theorem dX0_book_93 : decode cX0_book 93 = .ok (.iload 5, 2) := dk_21 5 (dk_at dksX0_book_4 0 rfl rfl)
theorem dX0_book_95 : decode cX0_book 95 = .ok (.iastore, 1) := dk_79 (dk_at dksX0_book_4 2 rfl rfl)
theorem dX0_book_96 : decode cX0_book 96 = .ok (.astore 7, 2) := dk_58 7 (dk_at dksX0_book_4 3 rfl rfl)
theorem dX0_book_98 : decode cX0_book 98 = .ok (.aload 7, 2) := dk_25 7 (dk_at dksX0_book_4 5 rfl rfl)
theorem dX0_book_100 : decode cX0_book 100 = .ok (.aload_n 0, 1) := dk_42 (dk_at dksX0_book_4 7 rfl rfl)
theorem dX0_book_101 : decode cX0_book 101 = .ok (.getfield 12, 3) := dk_180 0 12 (dk_at dksX0_book_4 8 rfl rfl)
theorem dX0_book_104 : decode cX0_book 104 = .ok (.getfield 96, 3) := dk_180 0 96 (dk_at dksX0_book_4 11 rfl rfl)
theorem dX0_book_107 : decode cX0_book 107 = .ok (.iload 6, 2) := dk_21 6 (dk_at dksX0_book_4 14 rfl rfl)
theorem dX0_book_109 : decode cX0_book 109 = .ok (.aaload, 1) := dk_50 (dk_at dksX0_book_4 16 rfl rfl)
theorem dX0_book_110 : decode cX0_book 110 = .ok (.invokestatic 99, 3) := dk_184 0 99 (dk_at dksX0_book_4 17 rfl rfl)
theorem dX0_book_113 : decode cX0_book 113 = .ok (.aload_n 0, 1) := dk_42 (dk_at dksX0_book_4 20 rfl rfl)
theorem dX0_book_114 : decode cX0_book 114 = .ok (.getfield 12, 3) := dk_180 0 12 (dk_at dksX0_book_4 21 rfl rfl)
theorem dX0_book_117 : decode cX0_book 117 = .ok (.getfield 71, 3) := dk_180 0 71 (dk_at dksX0_book_5 0 rfl rfl)
theorem dX0_book_120 : decode cX0_book 120 = .ok (.iconst 0, 1) := dk_3 (dk_at dksX0_book_5 3 rfl rfl)
theorem dX0_book_121 : decode cX0_book 121 = .ok (.dup2, 1) := dk_92 (dk_at dksX0_book_5 4 rfl rfl)
theorem dX0_book_122 : decode cX0_book 122 = .ok (.iaload, 1) := dk_46 (dk_at dksX0_book_5 5 rfl rfl)
theorem dX0_book_123 : decode cX0_book 123 = .ok (.iconst 1, 1) := dk_4 (dk_at dksX0_book_5 6 rfl rfl)
theorem dX0_book_124 : decode cX0_book 124 = .ok (.iadd, 1) := dk_96 (dk_at dksX0_book_5 7 rfl rfl)
theorem dX0_book_125 : decode cX0_book 125 = .ok (.iastore, 1) := dk_79 (dk_at dksX0_book_5 8 rfl rfl)
theorem dX0_book_126 : decode cX0_book 126 = .ok (.iload 6, 2) := dk_21 6 (dk_at dksX0_book_5 9 rfl rfl)
theorem dX0_book_128 : decode cX0_book 128 = .ok (.ireturn, 1) := dk_172 (dk_at dksX0_book_5 11 rfl rfl)
abbrev MX0_book : jjM := (yX0_book, cX0_book, 8, (Option.some Jvm.ClassFile.FieldType.int))
theorem npX0_book : yX0_book.cls ≠ "java/lang/invoke/MethodHandle" ∧ yX0_book.cls ≠ "java/lang/invoke/VarHandle" ∧ (parseMethodDescriptor yX0_book.desc).map (fun d => d.parameters.length) = some 5 := by decide +kernel
abbrev cX0_need : ByteArray := prog_1_method_9_code
def yX0_need : MethodName := ⟨RX0, "need", "(I)Z"⟩
def dkwX0_need_0 : List UInt8 := [27, 4, 5, 184, 0, 74, 154, 0, 5, 3, 172, 42, 180, 0, 12, 180, 0, 71, 4, 27, 79, 4, 172]
abbrev dktX0_need_0 : List UInt8 := dkwX0_need_0 ++ []
theorem dksX0_need_0 : cX0_need.data.toList.drop 0 = dktX0_need_0 := by decide +kernel
theorem dX0_need_0 : decode cX0_need 0 = .ok (.iload_n 1, 1) := dk_27 (dk_at dksX0_need_0 0 rfl rfl)
theorem dX0_need_1 : decode cX0_need 1 = .ok (.iconst 1, 1) := dk_4 (dk_at dksX0_need_0 1 rfl rfl)
theorem dX0_need_2 : decode cX0_need 2 = .ok (.iconst 2, 1) := dk_5 (dk_at dksX0_need_0 2 rfl rfl)
theorem dX0_need_3 : decode cX0_need 3 = .ok (.invokestatic 74, 3) := dk_184 0 74 (dk_at dksX0_need_0 3 rfl rfl)
theorem dX0_need_6 : decode cX0_need 6 = .ok (.ifCond .ne 5, 3) := dk_154 0 5 (dk_at dksX0_need_0 6 rfl rfl)
theorem dX0_need_9 : decode cX0_need 9 = .ok (.iconst 0, 1) := dk_3 (dk_at dksX0_need_0 9 rfl rfl)
theorem dX0_need_10 : decode cX0_need 10 = .ok (.ireturn, 1) := dk_172 (dk_at dksX0_need_0 10 rfl rfl)
theorem dX0_need_11 : decode cX0_need 11 = .ok (.aload_n 0, 1) := dk_42 (dk_at dksX0_need_0 11 rfl rfl)
theorem dX0_need_12 : decode cX0_need 12 = .ok (.getfield 12, 3) := dk_180 0 12 (dk_at dksX0_need_0 12 rfl rfl)
theorem dX0_need_15 : decode cX0_need 15 = .ok (.getfield 71, 3) := dk_180 0 71 (dk_at dksX0_need_0 15 rfl rfl)
theorem dX0_need_18 : decode cX0_need 18 = .ok (.iconst 1, 1) := dk_4 (dk_at dksX0_need_0 18 rfl rfl)
theorem dX0_need_19 : decode cX0_need 19 = .ok (.iload_n 1, 1) := dk_27 (dk_at dksX0_need_0 19 rfl rfl)
theorem dX0_need_20 : decode cX0_need 20 = .ok (.iastore, 1) := dk_79 (dk_at dksX0_need_0 20 rfl rfl)
theorem dX0_need_21 : decode cX0_need 21 = .ok (.iconst 1, 1) := dk_4 (dk_at dksX0_need_0 21 rfl rfl)
theorem dX0_need_22 : decode cX0_need 22 = .ok (.ireturn, 1) := dk_172 (dk_at dksX0_need_0 22 rfl rfl)
abbrev MX0_need : jjM := (yX0_need, cX0_need, 2, (Option.some Jvm.ClassFile.FieldType.boolean))
theorem npX0_need : yX0_need.cls ≠ "java/lang/invoke/MethodHandle" ∧ yX0_need.cls ≠ "java/lang/invoke/VarHandle" ∧ (parseMethodDescriptor yX0_need.desc).map (fun d => d.parameters.length) = some 1 := by decide +kernel
abbrev cX0_feed : ByteArray := prog_1_method_11_code
def yX0_feed : MethodName := ⟨RX0, "feed", "(IIIII)I"⟩
def dkwX0_feed_2 : List UInt8 := [172]
abbrev dktX0_feed_2 : List UInt8 := dkwX0_feed_2 ++ []
def dkwX0_feed_1 : List UInt8 := [182, 0, 106, 42, 29, 182, 0, 106, 42, 21, 4, 182, 0, 106, 42, 21, 5, 182, 0, 106, 42, 180, 0, 103]
abbrev dktX0_feed_1 : List UInt8 := dkwX0_feed_1 ++ dktX0_feed_2
def dkwX0_feed_0 : List UInt8 := [42, 180, 0, 103, 16, 20, 96, 17, 1, 44, 164, 0, 5, 2, 172, 42, 27, 182, 0, 106, 42, 28]
abbrev dktX0_feed_0 : List UInt8 := dkwX0_feed_0 ++ dktX0_feed_1
theorem dksX0_feed_0 : cX0_feed.data.toList.drop 0 = dktX0_feed_0 := by decide +kernel
theorem dksX0_feed_1 : cX0_feed.data.toList.drop 22 = dktX0_feed_1 := dk_seg dksX0_feed_0 22 rfl rfl
theorem dksX0_feed_2 : cX0_feed.data.toList.drop 46 = dktX0_feed_2 := dk_seg dksX0_feed_1 24 rfl rfl
theorem dX0_feed_0 : decode cX0_feed 0 = .ok (.aload_n 0, 1) := dk_42 (dk_at dksX0_feed_0 0 rfl rfl)
theorem dX0_feed_1 : decode cX0_feed 1 = .ok (.getfield 103, 3) := dk_180 0 103 (dk_at dksX0_feed_0 1 rfl rfl)
theorem dX0_feed_4 : decode cX0_feed 4 = .ok (.bipush 20, 2) := dk_16 20 (dk_at dksX0_feed_0 4 rfl rfl)
theorem dX0_feed_6 : decode cX0_feed 6 = .ok (.iadd, 1) := dk_96 (dk_at dksX0_feed_0 6 rfl rfl)
theorem dX0_feed_7 : decode cX0_feed 7 = .ok (.sipush 300, 3) := dk_17 1 44 (dk_at dksX0_feed_0 7 rfl rfl)
theorem dX0_feed_10 : decode cX0_feed 10 = .ok (.if_icmp .le 5, 3) := dk_164 0 5 (dk_at dksX0_feed_0 10 rfl rfl)
theorem dX0_feed_13 : decode cX0_feed 13 = .ok (.iconst (-1), 1) := dk_2 (dk_at dksX0_feed_0 13 rfl rfl)
theorem dX0_feed_14 : decode cX0_feed 14 = .ok (.ireturn, 1) := dk_172 (dk_at dksX0_feed_0 14 rfl rfl)
theorem dX0_feed_15 : decode cX0_feed 15 = .ok (.aload_n 0, 1) := dk_42 (dk_at dksX0_feed_0 15 rfl rfl)
theorem dX0_feed_16 : decode cX0_feed 16 = .ok (.iload_n 1, 1) := dk_27 (dk_at dksX0_feed_0 16 rfl rfl)
theorem dX0_feed_17 : decode cX0_feed 17 = .ok (.invokevirtual 106, 3) := dk_182 0 106 (dk_at dksX0_feed_0 17 rfl rfl)
theorem dX0_feed_20 : decode cX0_feed 20 = .ok (.aload_n 0, 1) := dk_42 (dk_at dksX0_feed_0 20 rfl rfl)
theorem dX0_feed_21 : decode cX0_feed 21 = .ok (.iload_n 2, 1) := dk_28 (dk_at dksX0_feed_0 21 rfl rfl)
theorem dX0_feed_22 : decode cX0_feed 22 = .ok (.invokevirtual 106, 3) := dk_182 0 106 (dk_at dksX0_feed_1 0 rfl rfl)
theorem dX0_feed_25 : decode cX0_feed 25 = .ok (.aload_n 0, 1) := dk_42 (dk_at dksX0_feed_1 3 rfl rfl)
theorem dX0_feed_26 : decode cX0_feed 26 = .ok (.iload_n 3, 1) := dk_29 (dk_at dksX0_feed_1 4 rfl rfl)
theorem dX0_feed_27 : decode cX0_feed 27 = .ok (.invokevirtual 106, 3) := dk_182 0 106 (dk_at dksX0_feed_1 5 rfl rfl)
theorem dX0_feed_30 : decode cX0_feed 30 = .ok (.aload_n 0, 1) := dk_42 (dk_at dksX0_feed_1 8 rfl rfl)
theorem dX0_feed_31 : decode cX0_feed 31 = .ok (.iload 4, 2) := dk_21 4 (dk_at dksX0_feed_1 9 rfl rfl)
theorem dX0_feed_33 : decode cX0_feed 33 = .ok (.invokevirtual 106, 3) := dk_182 0 106 (dk_at dksX0_feed_1 11 rfl rfl)
theorem dX0_feed_36 : decode cX0_feed 36 = .ok (.aload_n 0, 1) := dk_42 (dk_at dksX0_feed_1 14 rfl rfl)
theorem dX0_feed_37 : decode cX0_feed 37 = .ok (.iload 5, 2) := dk_21 5 (dk_at dksX0_feed_1 15 rfl rfl)
theorem dX0_feed_39 : decode cX0_feed 39 = .ok (.invokevirtual 106, 3) := dk_182 0 106 (dk_at dksX0_feed_1 17 rfl rfl)
theorem dX0_feed_42 : decode cX0_feed 42 = .ok (.aload_n 0, 1) := dk_42 (dk_at dksX0_feed_1 20 rfl rfl)
theorem dX0_feed_43 : decode cX0_feed 43 = .ok (.getfield 103, 3) := dk_180 0 103 (dk_at dksX0_feed_1 21 rfl rfl)
theorem dX0_feed_46 : decode cX0_feed 46 = .ok (.ireturn, 1) := dk_172 (dk_at dksX0_feed_2 0 rfl rfl)
abbrev MX0_feed : jjM := (yX0_feed, cX0_feed, 6, (Option.some Jvm.ClassFile.FieldType.int))
theorem npX0_feed : yX0_feed.cls ≠ "java/lang/invoke/MethodHandle" ∧ yX0_feed.cls ≠ "java/lang/invoke/VarHandle" ∧ (parseMethodDescriptor yX0_feed.desc).map (fun d => d.parameters.length) = some 5 := by decide +kernel
abbrev cX0_put : ByteArray := prog_1_method_10_code
def yX0_put : MethodName := ⟨RX0, "put", "(I)V"⟩
def dkwX0_put_1 : List UInt8 := [180, 0, 103, 4, 96, 181, 0, 103, 132, 2, 248, 167, 255, 226, 177]
abbrev dktX0_put_1 : List UInt8 := dkwX0_put_1 ++ []
def dkwX0_put_0 : List UInt8 := [16, 24, 61, 28, 155, 0, 32, 42, 180, 0, 19, 42, 180, 0, 103, 27, 28, 122, 145, 84, 42, 89]
abbrev dktX0_put_0 : List UInt8 := dkwX0_put_0 ++ dktX0_put_1
theorem dksX0_put_0 : cX0_put.data.toList.drop 0 = dktX0_put_0 := by decide +kernel
theorem dksX0_put_1 : cX0_put.data.toList.drop 22 = dktX0_put_1 := dk_seg dksX0_put_0 22 rfl rfl
theorem dX0_put_0 : decode cX0_put 0 = .ok (.bipush 24, 2) := dk_16 24 (dk_at dksX0_put_0 0 rfl rfl)
theorem dX0_put_2 : decode cX0_put 2 = .ok (.istore_n 2, 1) := dk_61 (dk_at dksX0_put_0 2 rfl rfl)
theorem dX0_put_3 : decode cX0_put 3 = .ok (.iload_n 2, 1) := dk_28 (dk_at dksX0_put_0 3 rfl rfl)
theorem dX0_put_4 : decode cX0_put 4 = .ok (.ifCond .lt 32, 3) := dk_155 0 32 (dk_at dksX0_put_0 4 rfl rfl)
theorem dX0_put_7 : decode cX0_put 7 = .ok (.aload_n 0, 1) := dk_42 (dk_at dksX0_put_0 7 rfl rfl)
theorem dX0_put_8 : decode cX0_put 8 = .ok (.getfield 19, 3) := dk_180 0 19 (dk_at dksX0_put_0 8 rfl rfl)
theorem dX0_put_11 : decode cX0_put 11 = .ok (.aload_n 0, 1) := dk_42 (dk_at dksX0_put_0 11 rfl rfl)
theorem dX0_put_12 : decode cX0_put 12 = .ok (.getfield 103, 3) := dk_180 0 103 (dk_at dksX0_put_0 12 rfl rfl)
theorem dX0_put_15 : decode cX0_put 15 = .ok (.iload_n 1, 1) := dk_27 (dk_at dksX0_put_0 15 rfl rfl)
theorem dX0_put_16 : decode cX0_put 16 = .ok (.iload_n 2, 1) := dk_28 (dk_at dksX0_put_0 16 rfl rfl)
theorem dX0_put_17 : decode cX0_put 17 = .ok (.ishr, 1) := dk_122 (dk_at dksX0_put_0 17 rfl rfl)
theorem dX0_put_18 : decode cX0_put 18 = .ok (.i2b, 1) := dk_145 (dk_at dksX0_put_0 18 rfl rfl)
theorem dX0_put_19 : decode cX0_put 19 = .ok (.bastore, 1) := dk_84 (dk_at dksX0_put_0 19 rfl rfl)
theorem dX0_put_20 : decode cX0_put 20 = .ok (.aload_n 0, 1) := dk_42 (dk_at dksX0_put_0 20 rfl rfl)
theorem dX0_put_21 : decode cX0_put 21 = .ok (.dup, 1) := dk_89 (dk_at dksX0_put_0 21 rfl rfl)
theorem dX0_put_22 : decode cX0_put 22 = .ok (.getfield 103, 3) := dk_180 0 103 (dk_at dksX0_put_1 0 rfl rfl)
theorem dX0_put_25 : decode cX0_put 25 = .ok (.iconst 1, 1) := dk_4 (dk_at dksX0_put_1 3 rfl rfl)
theorem dX0_put_26 : decode cX0_put 26 = .ok (.iadd, 1) := dk_96 (dk_at dksX0_put_1 4 rfl rfl)
theorem dX0_put_27 : decode cX0_put 27 = .ok (.putfield 103, 3) := dk_181 0 103 (dk_at dksX0_put_1 5 rfl rfl)
theorem dX0_put_30 : decode cX0_put 30 = .ok (.iinc 2 (-8), 3) := dk_132 2 248 (dk_at dksX0_put_1 8 rfl rfl)
theorem dX0_put_33 : decode cX0_put 33 = .ok (.goto (-30), 3) := dk_167 255 226 (dk_at dksX0_put_1 11 rfl rfl)
theorem dX0_put_36 : decode cX0_put 36 = .ok (.return_, 1) := dk_177 (dk_at dksX0_put_1 14 rfl rfl)
abbrev MX0_put : jjM := (yX0_put, cX0_put, 3, (Option.none : Option Jvm.ClassFile.FieldType))
theorem npX0_put : yX0_put.cls ≠ "java/lang/invoke/MethodHandle" ∧ yX0_put.cls ≠ "java/lang/invoke/VarHandle" ∧ (parseMethodDescriptor yX0_put.desc).map (fun d => d.parameters.length) = some 1 := by decide +kernel
abbrev cX0_end : ByteArray := prog_1_method_12_code
def yX0_end : MethodName := ⟨RX0, "end", "(I)I"⟩
def dkwX0_end_0 : List UInt8 := [27, 3, 42, 180, 0, 103, 184, 0, 74, 154, 0, 5, 2, 172, 42, 27, 181, 0, 103, 27, 172]
abbrev dktX0_end_0 : List UInt8 := dkwX0_end_0 ++ []
theorem dksX0_end_0 : cX0_end.data.toList.drop 0 = dktX0_end_0 := by decide +kernel
theorem dX0_end_0 : decode cX0_end 0 = .ok (.iload_n 1, 1) := dk_27 (dk_at dksX0_end_0 0 rfl rfl)
theorem dX0_end_1 : decode cX0_end 1 = .ok (.iconst 0, 1) := dk_3 (dk_at dksX0_end_0 1 rfl rfl)
theorem dX0_end_2 : decode cX0_end 2 = .ok (.aload_n 0, 1) := dk_42 (dk_at dksX0_end_0 2 rfl rfl)
theorem dX0_end_3 : decode cX0_end 3 = .ok (.getfield 103, 3) := dk_180 0 103 (dk_at dksX0_end_0 3 rfl rfl)
theorem dX0_end_6 : decode cX0_end 6 = .ok (.invokestatic 74, 3) := dk_184 0 74 (dk_at dksX0_end_0 6 rfl rfl)
theorem dX0_end_9 : decode cX0_end 9 = .ok (.ifCond .ne 5, 3) := dk_154 0 5 (dk_at dksX0_end_0 9 rfl rfl)
theorem dX0_end_12 : decode cX0_end 12 = .ok (.iconst (-1), 1) := dk_2 (dk_at dksX0_end_0 12 rfl rfl)
theorem dX0_end_13 : decode cX0_end 13 = .ok (.ireturn, 1) := dk_172 (dk_at dksX0_end_0 13 rfl rfl)
theorem dX0_end_14 : decode cX0_end 14 = .ok (.aload_n 0, 1) := dk_42 (dk_at dksX0_end_0 14 rfl rfl)
theorem dX0_end_15 : decode cX0_end 15 = .ok (.iload_n 1, 1) := dk_27 (dk_at dksX0_end_0 15 rfl rfl)
theorem dX0_end_16 : decode cX0_end 16 = .ok (.putfield 103, 3) := dk_181 0 103 (dk_at dksX0_end_0 16 rfl rfl)
theorem dX0_end_19 : decode cX0_end 19 = .ok (.iload_n 1, 1) := dk_27 (dk_at dksX0_end_0 19 rfl rfl)
theorem dX0_end_20 : decode cX0_end 20 = .ok (.ireturn, 1) := dk_172 (dk_at dksX0_end_0 20 rfl rfl)
abbrev MX0_end : jjM := (yX0_end, cX0_end, 2, (Option.some Jvm.ClassFile.FieldType.int))
theorem npX0_end : yX0_end.cls ≠ "java/lang/invoke/MethodHandle" ∧ yX0_end.cls ≠ "java/lang/invoke/VarHandle" ∧ (parseMethodDescriptor yX0_end.desc).map (fun d => d.parameters.length) = some 1 := by decide +kernel
abbrev cX0_text : ByteArray := prog_1_method_13_code
def yX0_text : MethodName := ⟨RX0, "text", "()I"⟩
def dkwX0_text_5 : List UInt8 := [79, 42, 180, 0, 12, 180, 0, 71, 5, 46, 4, 100, 172]
abbrev dktX0_text_5 : List UInt8 := dkwX0_text_5 ++ []
def dkwX0_text_4 : List UInt8 := [29, 172, 58, 4, 42, 3, 181, 0, 103, 25, 4, 191, 42, 180, 0, 12, 180, 0, 71, 5, 92, 46, 4, 96]
abbrev dktX0_text_4 : List UInt8 := dkwX0_text_4 ++ dktX0_text_5
def dkwX0_text_3 : List UInt8 := [77, 42, 44, 180, 0, 125, 181, 0, 23, 42, 44, 180, 0, 126, 181, 0, 27, 2, 62, 42, 3, 181, 0, 103]
abbrev dktX0_text_3 : List UInt8 := dkwX0_text_3 ++ dktX0_text_4
def dkwX0_text_2 : List UInt8 := [187, 0, 114, 89, 42, 180, 0, 19, 27, 183, 0, 116, 182, 0, 119, 83, 42, 3, 181, 0, 103, 167, 0, 39]
abbrev dktX0_text_2 : List UInt8 := dkwX0_text_2 ++ dktX0_text_3
def dkwX0_text_1 : List UInt8 := [181, 0, 23, 42, 2, 181, 0, 27, 42, 180, 0, 12, 180, 0, 110, 42, 180, 0, 12, 180, 0, 71, 5, 46]
abbrev dktX0_text_1 : List UInt8 := dkwX0_text_1 ++ dktX0_text_2
def dkwX0_text_0 : List UInt8 := [42, 180, 0, 12, 180, 0, 71, 5, 46, 7, 160, 0, 5, 2, 172, 42, 180, 0, 103, 60, 42, 3]
abbrev dktX0_text_0 : List UInt8 := dkwX0_text_0 ++ dktX0_text_1
theorem dksX0_text_0 : cX0_text.data.toList.drop 0 = dktX0_text_0 := by decide +kernel
theorem dksX0_text_1 : cX0_text.data.toList.drop 22 = dktX0_text_1 := dk_seg dksX0_text_0 22 rfl rfl
theorem dksX0_text_2 : cX0_text.data.toList.drop 46 = dktX0_text_2 := dk_seg dksX0_text_1 24 rfl rfl
theorem dksX0_text_3 : cX0_text.data.toList.drop 70 = dktX0_text_3 := dk_seg dksX0_text_2 24 rfl rfl
theorem dksX0_text_4 : cX0_text.data.toList.drop 94 = dktX0_text_4 := dk_seg dksX0_text_3 24 rfl rfl
theorem dksX0_text_5 : cX0_text.data.toList.drop 118 = dktX0_text_5 := dk_seg dksX0_text_4 24 rfl rfl
theorem dX0_text_0 : decode cX0_text 0 = .ok (.aload_n 0, 1) := dk_42 (dk_at dksX0_text_0 0 rfl rfl)
theorem dX0_text_1 : decode cX0_text 1 = .ok (.getfield 12, 3) := dk_180 0 12 (dk_at dksX0_text_0 1 rfl rfl)
theorem dX0_text_4 : decode cX0_text 4 = .ok (.getfield 71, 3) := dk_180 0 71 (dk_at dksX0_text_0 4 rfl rfl)
theorem dX0_text_7 : decode cX0_text 7 = .ok (.iconst 2, 1) := dk_5 (dk_at dksX0_text_0 7 rfl rfl)
theorem dX0_text_8 : decode cX0_text 8 = .ok (.iaload, 1) := dk_46 (dk_at dksX0_text_0 8 rfl rfl)
theorem dX0_text_9 : decode cX0_text 9 = .ok (.iconst 4, 1) := dk_7 (dk_at dksX0_text_0 9 rfl rfl)
theorem dX0_text_10 : decode cX0_text 10 = .ok (.if_icmp .ne 5, 3) := dk_160 0 5 (dk_at dksX0_text_0 10 rfl rfl)
theorem dX0_text_13 : decode cX0_text 13 = .ok (.iconst (-1), 1) := dk_2 (dk_at dksX0_text_0 13 rfl rfl)
theorem dX0_text_14 : decode cX0_text 14 = .ok (.ireturn, 1) := dk_172 (dk_at dksX0_text_0 14 rfl rfl)
theorem dX0_text_15 : decode cX0_text 15 = .ok (.aload_n 0, 1) := dk_42 (dk_at dksX0_text_0 15 rfl rfl)
theorem dX0_text_16 : decode cX0_text 16 = .ok (.getfield 103, 3) := dk_180 0 103 (dk_at dksX0_text_0 16 rfl rfl)
theorem dX0_text_19 : decode cX0_text 19 = .ok (.istore_n 1, 1) := dk_60 (dk_at dksX0_text_0 19 rfl rfl)
theorem dX0_text_20 : decode cX0_text 20 = .ok (.aload_n 0, 1) := dk_42 (dk_at dksX0_text_0 20 rfl rfl)
theorem dX0_text_21 : decode cX0_text 21 = .ok (.iconst 0, 1) := dk_3 (dk_at dksX0_text_0 21 rfl rfl)
theorem dX0_text_22 : decode cX0_text 22 = .ok (.putfield 23, 3) := dk_181 0 23 (dk_at dksX0_text_1 0 rfl rfl)
theorem dX0_text_25 : decode cX0_text 25 = .ok (.aload_n 0, 1) := dk_42 (dk_at dksX0_text_1 3 rfl rfl)
theorem dX0_text_26 : decode cX0_text 26 = .ok (.iconst (-1), 1) := dk_2 (dk_at dksX0_text_1 4 rfl rfl)
theorem dX0_text_27 : decode cX0_text 27 = .ok (.putfield 27, 3) := dk_181 0 27 (dk_at dksX0_text_1 5 rfl rfl)
theorem dX0_text_30 : decode cX0_text 30 = .ok (.aload_n 0, 1) := dk_42 (dk_at dksX0_text_1 8 rfl rfl)
theorem dX0_text_31 : decode cX0_text 31 = .ok (.getfield 12, 3) := dk_180 0 12 (dk_at dksX0_text_1 9 rfl rfl)
theorem dX0_text_34 : decode cX0_text 34 = .ok (.getfield 110, 3) := dk_180 0 110 (dk_at dksX0_text_1 12 rfl rfl)
theorem dX0_text_37 : decode cX0_text 37 = .ok (.aload_n 0, 1) := dk_42 (dk_at dksX0_text_1 15 rfl rfl)
theorem dX0_text_38 : decode cX0_text 38 = .ok (.getfield 12, 3) := dk_180 0 12 (dk_at dksX0_text_1 16 rfl rfl)
theorem dX0_text_41 : decode cX0_text 41 = .ok (.getfield 71, 3) := dk_180 0 71 (dk_at dksX0_text_1 19 rfl rfl)
theorem dX0_text_44 : decode cX0_text 44 = .ok (.iconst 2, 1) := dk_5 (dk_at dksX0_text_1 22 rfl rfl)
theorem dX0_text_45 : decode cX0_text 45 = .ok (.iaload, 1) := dk_46 (dk_at dksX0_text_1 23 rfl rfl)
theorem dX0_text_46 : decode cX0_text 46 = .ok (.new 114, 3) := dk_187 0 114 (dk_at dksX0_text_2 0 rfl rfl)
theorem dX0_text_49 : decode cX0_text 49 = .ok (.dup, 1) := dk_89 (dk_at dksX0_text_2 3 rfl rfl)
theorem dX0_text_50 : decode cX0_text 50 = .ok (.aload_n 0, 1) := dk_42 (dk_at dksX0_text_2 4 rfl rfl)
theorem dX0_text_51 : decode cX0_text 51 = .ok (.getfield 19, 3) := dk_180 0 19 (dk_at dksX0_text_2 5 rfl rfl)
theorem dX0_text_54 : decode cX0_text 54 = .ok (.iload_n 1, 1) := dk_27 (dk_at dksX0_text_2 8 rfl rfl)
theorem dX0_text_55 : decode cX0_text 55 = .ok (.invokespecial 116, 3) := dk_183 0 116 (dk_at dksX0_text_2 9 rfl rfl)
theorem dX0_text_58 : decode cX0_text 58 = .ok (.invokevirtual 119, 3) := dk_182 0 119 (dk_at dksX0_text_2 12 rfl rfl)
theorem dX0_text_61 : decode cX0_text 61 = .ok (.aastore, 1) := dk_83 (dk_at dksX0_text_2 15 rfl rfl)
theorem dX0_text_62 : decode cX0_text 62 = .ok (.aload_n 0, 1) := dk_42 (dk_at dksX0_text_2 16 rfl rfl)
theorem dX0_text_63 : decode cX0_text 63 = .ok (.iconst 0, 1) := dk_3 (dk_at dksX0_text_2 17 rfl rfl)
theorem dX0_text_64 : decode cX0_text 64 = .ok (.putfield 103, 3) := dk_181 0 103 (dk_at dksX0_text_2 18 rfl rfl)
theorem dX0_text_67 : decode cX0_text 67 = .ok (.goto 39, 3) := dk_167 0 39 (dk_at dksX0_text_2 21 rfl rfl)
theorem dX0_text_70 : decode cX0_text 70 = .ok (.astore_n 2, 1) := dk_77 (dk_at dksX0_text_3 0 rfl rfl)
theorem dX0_text_71 : decode cX0_text 71 = .ok (.aload_n 0, 1) := dk_42 (dk_at dksX0_text_3 1 rfl rfl)
theorem dX0_text_72 : decode cX0_text 72 = .ok (.aload_n 2, 1) := dk_44 (dk_at dksX0_text_3 2 rfl rfl)
theorem dX0_text_73 : decode cX0_text 73 = .ok (.getfield 125, 3) := dk_180 0 125 (dk_at dksX0_text_3 3 rfl rfl)
theorem dX0_text_76 : decode cX0_text 76 = .ok (.putfield 23, 3) := dk_181 0 23 (dk_at dksX0_text_3 6 rfl rfl)
theorem dX0_text_79 : decode cX0_text 79 = .ok (.aload_n 0, 1) := dk_42 (dk_at dksX0_text_3 9 rfl rfl)
theorem dX0_text_80 : decode cX0_text 80 = .ok (.aload_n 2, 1) := dk_44 (dk_at dksX0_text_3 10 rfl rfl)
theorem dX0_text_81 : decode cX0_text 81 = .ok (.getfield 126, 3) := dk_180 0 126 (dk_at dksX0_text_3 11 rfl rfl)
theorem dX0_text_84 : decode cX0_text 84 = .ok (.putfield 27, 3) := dk_181 0 27 (dk_at dksX0_text_3 14 rfl rfl)
theorem dX0_text_87 : decode cX0_text 87 = .ok (.iconst (-1), 1) := dk_2 (dk_at dksX0_text_3 17 rfl rfl)
theorem dX0_text_88 : decode cX0_text 88 = .ok (.istore_n 3, 1) := dk_62 (dk_at dksX0_text_3 18 rfl rfl)
theorem dX0_text_89 : decode cX0_text 89 = .ok (.aload_n 0, 1) := dk_42 (dk_at dksX0_text_3 19 rfl rfl)
theorem dX0_text_90 : decode cX0_text 90 = .ok (.iconst 0, 1) := dk_3 (dk_at dksX0_text_3 20 rfl rfl)
theorem dX0_text_91 : decode cX0_text 91 = .ok (.putfield 103, 3) := dk_181 0 103 (dk_at dksX0_text_3 21 rfl rfl)
theorem dX0_text_94 : decode cX0_text 94 = .ok (.iload_n 3, 1) := dk_29 (dk_at dksX0_text_4 0 rfl rfl)
theorem dX0_text_95 : decode cX0_text 95 = .ok (.ireturn, 1) := dk_172 (dk_at dksX0_text_4 1 rfl rfl)
theorem dX0_text_96 : decode cX0_text 96 = .ok (.astore 4, 2) := dk_58 4 (dk_at dksX0_text_4 2 rfl rfl)
theorem dX0_text_98 : decode cX0_text 98 = .ok (.aload_n 0, 1) := dk_42 (dk_at dksX0_text_4 4 rfl rfl)
theorem dX0_text_99 : decode cX0_text 99 = .ok (.iconst 0, 1) := dk_3 (dk_at dksX0_text_4 5 rfl rfl)
theorem dX0_text_100 : decode cX0_text 100 = .ok (.putfield 103, 3) := dk_181 0 103 (dk_at dksX0_text_4 6 rfl rfl)
theorem dX0_text_103 : decode cX0_text 103 = .ok (.aload 4, 2) := dk_25 4 (dk_at dksX0_text_4 9 rfl rfl)
theorem dX0_text_105 : decode cX0_text 105 = .ok (.athrow, 1) := dk_191 (dk_at dksX0_text_4 11 rfl rfl)
theorem dX0_text_106 : decode cX0_text 106 = .ok (.aload_n 0, 1) := dk_42 (dk_at dksX0_text_4 12 rfl rfl)
theorem dX0_text_107 : decode cX0_text 107 = .ok (.getfield 12, 3) := dk_180 0 12 (dk_at dksX0_text_4 13 rfl rfl)
theorem dX0_text_110 : decode cX0_text 110 = .ok (.getfield 71, 3) := dk_180 0 71 (dk_at dksX0_text_4 16 rfl rfl)
theorem dX0_text_113 : decode cX0_text 113 = .ok (.iconst 2, 1) := dk_5 (dk_at dksX0_text_4 19 rfl rfl)
theorem dX0_text_114 : decode cX0_text 114 = .ok (.dup2, 1) := dk_92 (dk_at dksX0_text_4 20 rfl rfl)
theorem dX0_text_115 : decode cX0_text 115 = .ok (.iaload, 1) := dk_46 (dk_at dksX0_text_4 21 rfl rfl)
theorem dX0_text_116 : decode cX0_text 116 = .ok (.iconst 1, 1) := dk_4 (dk_at dksX0_text_4 22 rfl rfl)
theorem dX0_text_117 : decode cX0_text 117 = .ok (.iadd, 1) := dk_96 (dk_at dksX0_text_4 23 rfl rfl)
theorem dX0_text_118 : decode cX0_text 118 = .ok (.iastore, 1) := dk_79 (dk_at dksX0_text_5 0 rfl rfl)
theorem dX0_text_119 : decode cX0_text 119 = .ok (.aload_n 0, 1) := dk_42 (dk_at dksX0_text_5 1 rfl rfl)
theorem dX0_text_120 : decode cX0_text 120 = .ok (.getfield 12, 3) := dk_180 0 12 (dk_at dksX0_text_5 2 rfl rfl)
theorem dX0_text_123 : decode cX0_text 123 = .ok (.getfield 71, 3) := dk_180 0 71 (dk_at dksX0_text_5 5 rfl rfl)
theorem dX0_text_126 : decode cX0_text 126 = .ok (.iconst 2, 1) := dk_5 (dk_at dksX0_text_5 8 rfl rfl)
theorem dX0_text_127 : decode cX0_text 127 = .ok (.iaload, 1) := dk_46 (dk_at dksX0_text_5 9 rfl rfl)
theorem dX0_text_128 : decode cX0_text 128 = .ok (.iconst 1, 1) := dk_4 (dk_at dksX0_text_5 10 rfl rfl)
theorem dX0_text_129 : decode cX0_text 129 = .ok (.isub, 1) := dk_100 (dk_at dksX0_text_5 11 rfl rfl)
theorem dX0_text_130 : decode cX0_text 130 = .ok (.ireturn, 1) := dk_172 (dk_at dksX0_text_5 12 rfl rfl)
theorem npX0_text : yX0_text.cls ≠ "java/lang/invoke/MethodHandle" ∧ yX0_text.cls ≠ "java/lang/invoke/VarHandle" ∧ (parseMethodDescriptor yX0_text.desc).map (fun d => d.parameters.length) = some 0 := by decide +kernel
abbrev cX0_fault : ByteArray := prog_1_method_14_code
def yX0_fault : MethodName := ⟨RX0, "fault", "(I)I"⟩
def dkwX0_fault_1 : List UInt8 := [172]
abbrev dktX0_fault_1 : List UInt8 := dkwX0_fault_1 ++ []
def dkwX0_fault_0 : List UInt8 := [27, 154, 0, 10, 42, 180, 0, 23, 167, 0, 16, 27, 4, 160, 0, 10, 42, 180, 0, 27, 167, 0, 4, 2]
abbrev dktX0_fault_0 : List UInt8 := dkwX0_fault_0 ++ dktX0_fault_1
theorem dksX0_fault_0 : cX0_fault.data.toList.drop 0 = dktX0_fault_0 := by decide +kernel
theorem dksX0_fault_1 : cX0_fault.data.toList.drop 24 = dktX0_fault_1 := dk_seg dksX0_fault_0 24 rfl rfl
theorem dX0_fault_0 : decode cX0_fault 0 = .ok (.iload_n 1, 1) := dk_27 (dk_at dksX0_fault_0 0 rfl rfl)
theorem dX0_fault_1 : decode cX0_fault 1 = .ok (.ifCond .ne 10, 3) := dk_154 0 10 (dk_at dksX0_fault_0 1 rfl rfl)
theorem dX0_fault_4 : decode cX0_fault 4 = .ok (.aload_n 0, 1) := dk_42 (dk_at dksX0_fault_0 4 rfl rfl)
theorem dX0_fault_5 : decode cX0_fault 5 = .ok (.getfield 23, 3) := dk_180 0 23 (dk_at dksX0_fault_0 5 rfl rfl)
theorem dX0_fault_8 : decode cX0_fault 8 = .ok (.goto 16, 3) := dk_167 0 16 (dk_at dksX0_fault_0 8 rfl rfl)
theorem dX0_fault_11 : decode cX0_fault 11 = .ok (.iload_n 1, 1) := dk_27 (dk_at dksX0_fault_0 11 rfl rfl)
theorem dX0_fault_12 : decode cX0_fault 12 = .ok (.iconst 1, 1) := dk_4 (dk_at dksX0_fault_0 12 rfl rfl)
theorem dX0_fault_13 : decode cX0_fault 13 = .ok (.if_icmp .ne 10, 3) := dk_160 0 10 (dk_at dksX0_fault_0 13 rfl rfl)
theorem dX0_fault_16 : decode cX0_fault 16 = .ok (.aload_n 0, 1) := dk_42 (dk_at dksX0_fault_0 16 rfl rfl)
theorem dX0_fault_17 : decode cX0_fault 17 = .ok (.getfield 27, 3) := dk_180 0 27 (dk_at dksX0_fault_0 17 rfl rfl)
theorem dX0_fault_20 : decode cX0_fault 20 = .ok (.goto 4, 3) := dk_167 0 4 (dk_at dksX0_fault_0 20 rfl rfl)
theorem dX0_fault_23 : decode cX0_fault 23 = .ok (.iconst (-1), 1) := dk_2 (dk_at dksX0_fault_0 23 rfl rfl)
theorem dX0_fault_24 : decode cX0_fault 24 = .ok (.ireturn, 1) := dk_172 (dk_at dksX0_fault_1 0 rfl rfl)
abbrev MX0_fault : jjM := (yX0_fault, cX0_fault, 2, (Option.some Jvm.ClassFile.FieldType.int))
theorem npX0_fault : yX0_fault.cls ≠ "java/lang/invoke/MethodHandle" ∧ yX0_fault.cls ≠ "java/lang/invoke/VarHandle" ∧ (parseMethodDescriptor yX0_fault.desc).map (fun d => d.parameters.length) = some 1 := by decide +kernel
abbrev cX0_by : ByteArray := prog_1_method_16_code
def yX0_by : MethodName := ⟨RX0, "by", "(I)Z"⟩
def dkwX0_by_1 : List UInt8 := [79, 4, 172]
abbrev dktX0_by_1 : List UInt8 := dkwX0_by_1 ++ []
def dkwX0_by_0 : List UInt8 := [27, 2, 159, 0, 13, 42, 27, 182, 0, 129, 154, 0, 5, 3, 172, 42, 180, 0, 12, 180, 0, 71, 6, 27]
abbrev dktX0_by_0 : List UInt8 := dkwX0_by_0 ++ dktX0_by_1
theorem dksX0_by_0 : cX0_by.data.toList.drop 0 = dktX0_by_0 := by decide +kernel
theorem dksX0_by_1 : cX0_by.data.toList.drop 24 = dktX0_by_1 := dk_seg dksX0_by_0 24 rfl rfl
theorem dX0_by_0 : decode cX0_by 0 = .ok (.iload_n 1, 1) := dk_27 (dk_at dksX0_by_0 0 rfl rfl)
theorem dX0_by_1 : decode cX0_by 1 = .ok (.iconst (-1), 1) := dk_2 (dk_at dksX0_by_0 1 rfl rfl)
theorem dX0_by_2 : decode cX0_by 2 = .ok (.if_icmp .eq 13, 3) := dk_159 0 13 (dk_at dksX0_by_0 2 rfl rfl)
theorem dX0_by_5 : decode cX0_by 5 = .ok (.aload_n 0, 1) := dk_42 (dk_at dksX0_by_0 5 rfl rfl)
theorem dX0_by_6 : decode cX0_by 6 = .ok (.iload_n 1, 1) := dk_27 (dk_at dksX0_by_0 6 rfl rfl)
theorem dX0_by_7 : decode cX0_by 7 = .ok (.invokevirtual 129, 3) := dk_182 0 129 (dk_at dksX0_by_0 7 rfl rfl)
theorem dX0_by_10 : decode cX0_by 10 = .ok (.ifCond .ne 5, 3) := dk_154 0 5 (dk_at dksX0_by_0 10 rfl rfl)
theorem dX0_by_13 : decode cX0_by 13 = .ok (.iconst 0, 1) := dk_3 (dk_at dksX0_by_0 13 rfl rfl)
theorem dX0_by_14 : decode cX0_by 14 = .ok (.ireturn, 1) := dk_172 (dk_at dksX0_by_0 14 rfl rfl)
theorem dX0_by_15 : decode cX0_by 15 = .ok (.aload_n 0, 1) := dk_42 (dk_at dksX0_by_0 15 rfl rfl)
theorem dX0_by_16 : decode cX0_by 16 = .ok (.getfield 12, 3) := dk_180 0 12 (dk_at dksX0_by_0 16 rfl rfl)
theorem dX0_by_19 : decode cX0_by 19 = .ok (.getfield 71, 3) := dk_180 0 71 (dk_at dksX0_by_0 19 rfl rfl)
theorem dX0_by_22 : decode cX0_by 22 = .ok (.iconst 3, 1) := dk_6 (dk_at dksX0_by_0 22 rfl rfl)
theorem dX0_by_23 : decode cX0_by 23 = .ok (.iload_n 1, 1) := dk_27 (dk_at dksX0_by_0 23 rfl rfl)
theorem dX0_by_24 : decode cX0_by 24 = .ok (.iastore, 1) := dk_79 (dk_at dksX0_by_1 0 rfl rfl)
theorem dX0_by_25 : decode cX0_by 25 = .ok (.iconst 1, 1) := dk_4 (dk_at dksX0_by_1 1 rfl rfl)
theorem dX0_by_26 : decode cX0_by 26 = .ok (.ireturn, 1) := dk_172 (dk_at dksX0_by_1 2 rfl rfl)
abbrev MX0_by : jjM := (yX0_by, cX0_by, 2, (Option.some Jvm.ClassFile.FieldType.boolean))
theorem npX0_by : yX0_by.cls ≠ "java/lang/invoke/MethodHandle" ∧ yX0_by.cls ≠ "java/lang/invoke/VarHandle" ∧ (parseMethodDescriptor yX0_by.desc).map (fun d => d.parameters.length) = some 1 := by decide +kernel
abbrev cX0_isText : ByteArray := prog_1_method_15_code
def yX0_isText : MethodName := ⟨RX0, "isText", "(I)Z"⟩
def dkwX0_isText_0 : List UInt8 := [27, 3, 42, 180, 0, 12, 180, 0, 71, 5, 46, 4, 100, 184, 0, 74, 172]
abbrev dktX0_isText_0 : List UInt8 := dkwX0_isText_0 ++ []
theorem dksX0_isText_0 : cX0_isText.data.toList.drop 0 = dktX0_isText_0 := by decide +kernel
theorem dX0_isText_0 : decode cX0_isText 0 = .ok (.iload_n 1, 1) := dk_27 (dk_at dksX0_isText_0 0 rfl rfl)
theorem dX0_isText_1 : decode cX0_isText 1 = .ok (.iconst 0, 1) := dk_3 (dk_at dksX0_isText_0 1 rfl rfl)
theorem dX0_isText_2 : decode cX0_isText 2 = .ok (.aload_n 0, 1) := dk_42 (dk_at dksX0_isText_0 2 rfl rfl)
theorem dX0_isText_3 : decode cX0_isText 3 = .ok (.getfield 12, 3) := dk_180 0 12 (dk_at dksX0_isText_0 3 rfl rfl)
theorem dX0_isText_6 : decode cX0_isText 6 = .ok (.getfield 71, 3) := dk_180 0 71 (dk_at dksX0_isText_0 6 rfl rfl)
theorem dX0_isText_9 : decode cX0_isText 9 = .ok (.iconst 2, 1) := dk_5 (dk_at dksX0_isText_0 9 rfl rfl)
theorem dX0_isText_10 : decode cX0_isText 10 = .ok (.iaload, 1) := dk_46 (dk_at dksX0_isText_0 10 rfl rfl)
theorem dX0_isText_11 : decode cX0_isText 11 = .ok (.iconst 1, 1) := dk_4 (dk_at dksX0_isText_0 11 rfl rfl)
theorem dX0_isText_12 : decode cX0_isText 12 = .ok (.isub, 1) := dk_100 (dk_at dksX0_isText_0 12 rfl rfl)
theorem dX0_isText_13 : decode cX0_isText 13 = .ok (.invokestatic 74, 3) := dk_184 0 74 (dk_at dksX0_isText_0 13 rfl rfl)
theorem dX0_isText_16 : decode cX0_isText 16 = .ok (.ireturn, 1) := dk_172 (dk_at dksX0_isText_0 16 rfl rfl)
abbrev MX0_isText : jjM := (yX0_isText, cX0_isText, 2, (Option.some Jvm.ClassFile.FieldType.boolean))
theorem npX0_isText : yX0_isText.cls ≠ "java/lang/invoke/MethodHandle" ∧ yX0_isText.cls ≠ "java/lang/invoke/VarHandle" ∧ (parseMethodDescriptor yX0_isText.desc).map (fun d => d.parameters.length) = some 1 := by decide +kernel
abbrev cX0_pushes : ByteArray := prog_1_method_21_code
def yX0_pushes : MethodName := ⟨RX0, "pushes", "(IIZ)Z"⟩
def dkwX0_pushes_1 : List UInt8 := [29, 182, 0, 164, 153, 0, 7, 4, 167, 0, 4, 3, 172]
abbrev dktX0_pushes_1 : List UInt8 := dkwX0_pushes_1 ++ []
def dkwX0_pushes_0 : List UInt8 := [42, 27, 182, 0, 79, 153, 0, 30, 42, 28, 182, 0, 79, 153, 0, 22, 27, 28, 159, 0, 17, 42, 27, 28]
abbrev dktX0_pushes_0 : List UInt8 := dkwX0_pushes_0 ++ dktX0_pushes_1
theorem dksX0_pushes_0 : cX0_pushes.data.toList.drop 0 = dktX0_pushes_0 := by decide +kernel
theorem dksX0_pushes_1 : cX0_pushes.data.toList.drop 24 = dktX0_pushes_1 := dk_seg dksX0_pushes_0 24 rfl rfl
theorem dX0_pushes_0 : decode cX0_pushes 0 = .ok (.aload_n 0, 1) := dk_42 (dk_at dksX0_pushes_0 0 rfl rfl)
theorem dX0_pushes_1 : decode cX0_pushes 1 = .ok (.iload_n 1, 1) := dk_27 (dk_at dksX0_pushes_0 1 rfl rfl)
theorem dX0_pushes_2 : decode cX0_pushes 2 = .ok (.invokevirtual 79, 3) := dk_182 0 79 (dk_at dksX0_pushes_0 2 rfl rfl)
theorem dX0_pushes_5 : decode cX0_pushes 5 = .ok (.ifCond .eq 30, 3) := dk_153 0 30 (dk_at dksX0_pushes_0 5 rfl rfl)
theorem dX0_pushes_8 : decode cX0_pushes 8 = .ok (.aload_n 0, 1) := dk_42 (dk_at dksX0_pushes_0 8 rfl rfl)
theorem dX0_pushes_9 : decode cX0_pushes 9 = .ok (.iload_n 2, 1) := dk_28 (dk_at dksX0_pushes_0 9 rfl rfl)
theorem dX0_pushes_10 : decode cX0_pushes 10 = .ok (.invokevirtual 79, 3) := dk_182 0 79 (dk_at dksX0_pushes_0 10 rfl rfl)
theorem dX0_pushes_13 : decode cX0_pushes 13 = .ok (.ifCond .eq 22, 3) := dk_153 0 22 (dk_at dksX0_pushes_0 13 rfl rfl)
theorem dX0_pushes_16 : decode cX0_pushes 16 = .ok (.iload_n 1, 1) := dk_27 (dk_at dksX0_pushes_0 16 rfl rfl)
theorem dX0_pushes_17 : decode cX0_pushes 17 = .ok (.iload_n 2, 1) := dk_28 (dk_at dksX0_pushes_0 17 rfl rfl)
theorem dX0_pushes_18 : decode cX0_pushes 18 = .ok (.if_icmp .eq 17, 3) := dk_159 0 17 (dk_at dksX0_pushes_0 18 rfl rfl)
theorem dX0_pushes_21 : decode cX0_pushes 21 = .ok (.aload_n 0, 1) := dk_42 (dk_at dksX0_pushes_0 21 rfl rfl)
theorem dX0_pushes_22 : decode cX0_pushes 22 = .ok (.iload_n 1, 1) := dk_27 (dk_at dksX0_pushes_0 22 rfl rfl)
theorem dX0_pushes_23 : decode cX0_pushes 23 = .ok (.iload_n 2, 1) := dk_28 (dk_at dksX0_pushes_0 23 rfl rfl)
theorem dX0_pushes_24 : decode cX0_pushes 24 = .ok (.iload_n 3, 1) := dk_29 (dk_at dksX0_pushes_1 0 rfl rfl)
theorem dX0_pushes_25 : decode cX0_pushes 25 = .ok (.invokevirtual 164, 3) := dk_182 0 164 (dk_at dksX0_pushes_1 1 rfl rfl)
theorem dX0_pushes_28 : decode cX0_pushes 28 = .ok (.ifCond .eq 7, 3) := dk_153 0 7 (dk_at dksX0_pushes_1 4 rfl rfl)
theorem dX0_pushes_31 : decode cX0_pushes 31 = .ok (.iconst 1, 1) := dk_4 (dk_at dksX0_pushes_1 7 rfl rfl)
theorem dX0_pushes_32 : decode cX0_pushes 32 = .ok (.goto 4, 3) := dk_167 0 4 (dk_at dksX0_pushes_1 8 rfl rfl)
theorem dX0_pushes_35 : decode cX0_pushes 35 = .ok (.iconst 0, 1) := dk_3 (dk_at dksX0_pushes_1 11 rfl rfl)
theorem dX0_pushes_36 : decode cX0_pushes 36 = .ok (.ireturn, 1) := dk_172 (dk_at dksX0_pushes_1 12 rfl rfl)
abbrev MX0_pushes : jjM := (yX0_pushes, cX0_pushes, 4, (Option.some Jvm.ClassFile.FieldType.boolean))
theorem npX0_pushes : yX0_pushes.cls ≠ "java/lang/invoke/MethodHandle" ∧ yX0_pushes.cls ≠ "java/lang/invoke/VarHandle" ∧ (parseMethodDescriptor yX0_pushes.desc).map (fun d => d.parameters.length) = some 3 := by decide +kernel
abbrev cX0_isBook : ByteArray := prog_1_method_3_code
def yX0_isBook : MethodName := ⟨RX0, "isBook", "(I)Z"⟩
def dkwX0_isBook_0 : List UInt8 := [27, 3, 42, 180, 0, 12, 180, 0, 71, 3, 46, 4, 100, 184, 0, 74, 172]
abbrev dktX0_isBook_0 : List UInt8 := dkwX0_isBook_0 ++ []
theorem dksX0_isBook_0 : cX0_isBook.data.toList.drop 0 = dktX0_isBook_0 := by decide +kernel
theorem dX0_isBook_0 : decode cX0_isBook 0 = .ok (.iload_n 1, 1) := dk_27 (dk_at dksX0_isBook_0 0 rfl rfl)
theorem dX0_isBook_1 : decode cX0_isBook 1 = .ok (.iconst 0, 1) := dk_3 (dk_at dksX0_isBook_0 1 rfl rfl)
theorem dX0_isBook_2 : decode cX0_isBook 2 = .ok (.aload_n 0, 1) := dk_42 (dk_at dksX0_isBook_0 2 rfl rfl)
theorem dX0_isBook_3 : decode cX0_isBook 3 = .ok (.getfield 12, 3) := dk_180 0 12 (dk_at dksX0_isBook_0 3 rfl rfl)
theorem dX0_isBook_6 : decode cX0_isBook 6 = .ok (.getfield 71, 3) := dk_180 0 71 (dk_at dksX0_isBook_0 6 rfl rfl)
theorem dX0_isBook_9 : decode cX0_isBook 9 = .ok (.iconst 0, 1) := dk_3 (dk_at dksX0_isBook_0 9 rfl rfl)
theorem dX0_isBook_10 : decode cX0_isBook 10 = .ok (.iaload, 1) := dk_46 (dk_at dksX0_isBook_0 10 rfl rfl)
theorem dX0_isBook_11 : decode cX0_isBook 11 = .ok (.iconst 1, 1) := dk_4 (dk_at dksX0_isBook_0 11 rfl rfl)
theorem dX0_isBook_12 : decode cX0_isBook 12 = .ok (.isub, 1) := dk_100 (dk_at dksX0_isBook_0 12 rfl rfl)
theorem dX0_isBook_13 : decode cX0_isBook 13 = .ok (.invokestatic 74, 3) := dk_184 0 74 (dk_at dksX0_isBook_0 13 rfl rfl)
theorem dX0_isBook_16 : decode cX0_isBook 16 = .ok (.ireturn, 1) := dk_172 (dk_at dksX0_isBook_0 16 rfl rfl)
abbrev MX0_isBook : jjM := (yX0_isBook, cX0_isBook, 2, (Option.some Jvm.ClassFile.FieldType.boolean))
theorem npX0_isBook : yX0_isBook.cls ≠ "java/lang/invoke/MethodHandle" ∧ yX0_isBook.cls ≠ "java/lang/invoke/VarHandle" ∧ (parseMethodDescriptor yX0_isBook.desc).map (fun d => d.parameters.length) = some 1 := by decide +kernel
abbrev cX0_pushesNow : ByteArray := prog_1_method_20_code
def yX0_pushesNow : MethodName := ⟨RX0, "pushesNow", "(IIZ)Z"⟩
def dkwX0_pushesNow_0 : List UInt8 := [42, 42, 180, 0, 12, 180, 0, 96, 27, 50, 7, 46, 27, 28, 29, 182, 0, 160, 172]
abbrev dktX0_pushesNow_0 : List UInt8 := dkwX0_pushesNow_0 ++ []
theorem dksX0_pushesNow_0 : cX0_pushesNow.data.toList.drop 0 = dktX0_pushesNow_0 := by decide +kernel
theorem dX0_pushesNow_0 : decode cX0_pushesNow 0 = .ok (.aload_n 0, 1) := dk_42 (dk_at dksX0_pushesNow_0 0 rfl rfl)
theorem dX0_pushesNow_1 : decode cX0_pushesNow 1 = .ok (.aload_n 0, 1) := dk_42 (dk_at dksX0_pushesNow_0 1 rfl rfl)
theorem dX0_pushesNow_2 : decode cX0_pushesNow 2 = .ok (.getfield 12, 3) := dk_180 0 12 (dk_at dksX0_pushesNow_0 2 rfl rfl)
theorem dX0_pushesNow_5 : decode cX0_pushesNow 5 = .ok (.getfield 96, 3) := dk_180 0 96 (dk_at dksX0_pushesNow_0 5 rfl rfl)
theorem dX0_pushesNow_8 : decode cX0_pushesNow 8 = .ok (.iload_n 1, 1) := dk_27 (dk_at dksX0_pushesNow_0 8 rfl rfl)
theorem dX0_pushesNow_9 : decode cX0_pushesNow 9 = .ok (.aaload, 1) := dk_50 (dk_at dksX0_pushesNow_0 9 rfl rfl)
theorem dX0_pushesNow_10 : decode cX0_pushesNow 10 = .ok (.iconst 4, 1) := dk_7 (dk_at dksX0_pushesNow_0 10 rfl rfl)
theorem dX0_pushesNow_11 : decode cX0_pushesNow 11 = .ok (.iaload, 1) := dk_46 (dk_at dksX0_pushesNow_0 11 rfl rfl)
theorem dX0_pushesNow_12 : decode cX0_pushesNow 12 = .ok (.iload_n 1, 1) := dk_27 (dk_at dksX0_pushesNow_0 12 rfl rfl)
theorem dX0_pushesNow_13 : decode cX0_pushesNow 13 = .ok (.iload_n 2, 1) := dk_28 (dk_at dksX0_pushesNow_0 13 rfl rfl)
theorem dX0_pushesNow_14 : decode cX0_pushesNow 14 = .ok (.iload_n 3, 1) := dk_29 (dk_at dksX0_pushesNow_0 14 rfl rfl)
theorem dX0_pushesNow_15 : decode cX0_pushesNow 15 = .ok (.invokevirtual 160, 3) := dk_182 0 160 (dk_at dksX0_pushesNow_0 15 rfl rfl)
theorem dX0_pushesNow_18 : decode cX0_pushesNow 18 = .ok (.ireturn, 1) := dk_172 (dk_at dksX0_pushesNow_0 18 rfl rfl)
abbrev MX0_pushesNow : jjM := (yX0_pushesNow, cX0_pushesNow, 4, (Option.some Jvm.ClassFile.FieldType.boolean))
theorem npX0_pushesNow : yX0_pushesNow.cls ≠ "java/lang/invoke/MethodHandle" ∧ yX0_pushesNow.cls ≠ "java/lang/invoke/VarHandle" ∧ (parseMethodDescriptor yX0_pushesNow.desc).map (fun d => d.parameters.length) = some 3 := by decide +kernel
abbrev cX0_pushesBy : ByteArray := prog_1_method_19_code
def yX0_pushesBy : MethodName := ⟨RX0, "pushesBy", "(IIIZ)Z"⟩
def dkwX0_pushesBy_3 : List UInt8 := [180, 0, 30, 185, 0, 154, 2, 0, 172]
abbrev dktX0_pushesBy_3 : List UInt8 := dkwX0_pushesBy_3 ++ []
def dkwX0_pushesBy_2 : List UInt8 := [42, 180, 0, 12, 180, 0, 96, 29, 50, 3, 42, 180, 0, 30, 16, 8, 7, 184, 0, 136, 25, 5, 42]
abbrev dktX0_pushesBy_2 : List UInt8 := dkwX0_pushesBy_2 ++ dktX0_pushesBy_3
def dkwX0_pushesBy_1 : List UInt8 := [180, 0, 30, 16, 6, 21, 4, 153, 0, 7, 4, 167, 0, 4, 3, 79, 42, 180, 0, 30, 16, 7, 29, 79]
abbrev dktX0_pushesBy_1 : List UInt8 := dkwX0_pushesBy_1 ++ dktX0_pushesBy_2
def dkwX0_pushesBy_0 : List UInt8 := [42, 182, 0, 142, 180, 0, 145, 27, 50, 58, 5, 25, 5, 199, 0, 5, 3, 172, 42, 28, 182, 0, 151, 42]
abbrev dktX0_pushesBy_0 : List UInt8 := dkwX0_pushesBy_0 ++ dktX0_pushesBy_1
theorem dksX0_pushesBy_0 : cX0_pushesBy.data.toList.drop 0 = dktX0_pushesBy_0 := by decide +kernel
theorem dksX0_pushesBy_1 : cX0_pushesBy.data.toList.drop 24 = dktX0_pushesBy_1 := dk_seg dksX0_pushesBy_0 24 rfl rfl
theorem dksX0_pushesBy_2 : cX0_pushesBy.data.toList.drop 48 = dktX0_pushesBy_2 := dk_seg dksX0_pushesBy_1 24 rfl rfl
theorem dksX0_pushesBy_3 : cX0_pushesBy.data.toList.drop 71 = dktX0_pushesBy_3 := dk_seg dksX0_pushesBy_2 23 rfl rfl
theorem dX0_pushesBy_0 : decode cX0_pushesBy 0 = .ok (.aload_n 0, 1) := dk_42 (dk_at dksX0_pushesBy_0 0 rfl rfl)
theorem dX0_pushesBy_1 : decode cX0_pushesBy 1 = .ok (.invokevirtual 142, 3) := dk_182 0 142 (dk_at dksX0_pushesBy_0 1 rfl rfl)
theorem dX0_pushesBy_4 : decode cX0_pushesBy 4 = .ok (.getfield 145, 3) := dk_180 0 145 (dk_at dksX0_pushesBy_0 4 rfl rfl)
theorem dX0_pushesBy_7 : decode cX0_pushesBy 7 = .ok (.iload_n 1, 1) := dk_27 (dk_at dksX0_pushesBy_0 7 rfl rfl)
theorem dX0_pushesBy_8 : decode cX0_pushesBy 8 = .ok (.aaload, 1) := dk_50 (dk_at dksX0_pushesBy_0 8 rfl rfl)
theorem dX0_pushesBy_9 : decode cX0_pushesBy 9 = .ok (.astore 5, 2) := dk_58 5 (dk_at dksX0_pushesBy_0 9 rfl rfl)
theorem dX0_pushesBy_11 : decode cX0_pushesBy 11 = .ok (.aload 5, 2) := dk_25 5 (dk_at dksX0_pushesBy_0 11 rfl rfl)
theorem dX0_pushesBy_13 : decode cX0_pushesBy 13 = .ok (.ifnonnull 5, 3) := dk_199 0 5 (dk_at dksX0_pushesBy_0 13 rfl rfl)
theorem dX0_pushesBy_16 : decode cX0_pushesBy 16 = .ok (.iconst 0, 1) := dk_3 (dk_at dksX0_pushesBy_0 16 rfl rfl)
theorem dX0_pushesBy_17 : decode cX0_pushesBy 17 = .ok (.ireturn, 1) := dk_172 (dk_at dksX0_pushesBy_0 17 rfl rfl)
theorem dX0_pushesBy_18 : decode cX0_pushesBy 18 = .ok (.aload_n 0, 1) := dk_42 (dk_at dksX0_pushesBy_0 18 rfl rfl)
theorem dX0_pushesBy_19 : decode cX0_pushesBy 19 = .ok (.iload_n 2, 1) := dk_28 (dk_at dksX0_pushesBy_0 19 rfl rfl)
theorem dX0_pushesBy_20 : decode cX0_pushesBy 20 = .ok (.invokevirtual 151, 3) := dk_182 0 151 (dk_at dksX0_pushesBy_0 20 rfl rfl)
theorem dX0_pushesBy_23 : decode cX0_pushesBy 23 = .ok (.aload_n 0, 1) := dk_42 (dk_at dksX0_pushesBy_0 23 rfl rfl)
theorem dX0_pushesBy_24 : decode cX0_pushesBy 24 = .ok (.getfield 30, 3) := dk_180 0 30 (dk_at dksX0_pushesBy_1 0 rfl rfl)
theorem dX0_pushesBy_27 : decode cX0_pushesBy 27 = .ok (.bipush 6, 2) := dk_16 6 (dk_at dksX0_pushesBy_1 3 rfl rfl)
theorem dX0_pushesBy_29 : decode cX0_pushesBy 29 = .ok (.iload 4, 2) := dk_21 4 (dk_at dksX0_pushesBy_1 5 rfl rfl)
theorem dX0_pushesBy_31 : decode cX0_pushesBy 31 = .ok (.ifCond .eq 7, 3) := dk_153 0 7 (dk_at dksX0_pushesBy_1 7 rfl rfl)
theorem dX0_pushesBy_34 : decode cX0_pushesBy 34 = .ok (.iconst 1, 1) := dk_4 (dk_at dksX0_pushesBy_1 10 rfl rfl)
theorem dX0_pushesBy_35 : decode cX0_pushesBy 35 = .ok (.goto 4, 3) := dk_167 0 4 (dk_at dksX0_pushesBy_1 11 rfl rfl)
theorem dX0_pushesBy_38 : decode cX0_pushesBy 38 = .ok (.iconst 0, 1) := dk_3 (dk_at dksX0_pushesBy_1 14 rfl rfl)
theorem dX0_pushesBy_39 : decode cX0_pushesBy 39 = .ok (.iastore, 1) := dk_79 (dk_at dksX0_pushesBy_1 15 rfl rfl)
theorem dX0_pushesBy_40 : decode cX0_pushesBy 40 = .ok (.aload_n 0, 1) := dk_42 (dk_at dksX0_pushesBy_1 16 rfl rfl)
theorem dX0_pushesBy_41 : decode cX0_pushesBy 41 = .ok (.getfield 30, 3) := dk_180 0 30 (dk_at dksX0_pushesBy_1 17 rfl rfl)
theorem dX0_pushesBy_44 : decode cX0_pushesBy 44 = .ok (.bipush 7, 2) := dk_16 7 (dk_at dksX0_pushesBy_1 20 rfl rfl)
theorem dX0_pushesBy_46 : decode cX0_pushesBy 46 = .ok (.iload_n 3, 1) := dk_29 (dk_at dksX0_pushesBy_1 22 rfl rfl)
theorem dX0_pushesBy_47 : decode cX0_pushesBy 47 = .ok (.iastore, 1) := dk_79 (dk_at dksX0_pushesBy_1 23 rfl rfl)
theorem dX0_pushesBy_48 : decode cX0_pushesBy 48 = .ok (.aload_n 0, 1) := dk_42 (dk_at dksX0_pushesBy_2 0 rfl rfl)
theorem dX0_pushesBy_49 : decode cX0_pushesBy 49 = .ok (.getfield 12, 3) := dk_180 0 12 (dk_at dksX0_pushesBy_2 1 rfl rfl)
theorem dX0_pushesBy_52 : decode cX0_pushesBy 52 = .ok (.getfield 96, 3) := dk_180 0 96 (dk_at dksX0_pushesBy_2 4 rfl rfl)
theorem dX0_pushesBy_55 : decode cX0_pushesBy 55 = .ok (.iload_n 3, 1) := dk_29 (dk_at dksX0_pushesBy_2 7 rfl rfl)
theorem dX0_pushesBy_56 : decode cX0_pushesBy 56 = .ok (.aaload, 1) := dk_50 (dk_at dksX0_pushesBy_2 8 rfl rfl)
theorem dX0_pushesBy_57 : decode cX0_pushesBy 57 = .ok (.iconst 0, 1) := dk_3 (dk_at dksX0_pushesBy_2 9 rfl rfl)
theorem dX0_pushesBy_58 : decode cX0_pushesBy 58 = .ok (.aload_n 0, 1) := dk_42 (dk_at dksX0_pushesBy_2 10 rfl rfl)
theorem dX0_pushesBy_59 : decode cX0_pushesBy 59 = .ok (.getfield 30, 3) := dk_180 0 30 (dk_at dksX0_pushesBy_2 11 rfl rfl)
theorem dX0_pushesBy_62 : decode cX0_pushesBy 62 = .ok (.bipush 8, 2) := dk_16 8 (dk_at dksX0_pushesBy_2 14 rfl rfl)
theorem dX0_pushesBy_64 : decode cX0_pushesBy 64 = .ok (.iconst 4, 1) := dk_7 (dk_at dksX0_pushesBy_2 16 rfl rfl)
theorem dX0_pushesBy_65 : decode cX0_pushesBy 65 = .ok (.invokestatic 136, 3) := dk_184 0 136 (dk_at dksX0_pushesBy_2 17 rfl rfl)
theorem dX0_pushesBy_68 : decode cX0_pushesBy 68 = .ok (.aload 5, 2) := dk_25 5 (dk_at dksX0_pushesBy_2 20 rfl rfl)
theorem dX0_pushesBy_70 : decode cX0_pushesBy 70 = .ok (.aload_n 0, 1) := dk_42 (dk_at dksX0_pushesBy_2 22 rfl rfl)
theorem dX0_pushesBy_71 : decode cX0_pushesBy 71 = .ok (.getfield 30, 3) := dk_180 0 30 (dk_at dksX0_pushesBy_3 0 rfl rfl)
theorem dX0_pushesBy_74 : decode cX0_pushesBy 74 = .ok (.invokeinterface 154 2, 5) := by decide +kernel
theorem dX0_pushesBy_79 : decode cX0_pushesBy 79 = .ok (.ireturn, 1) := dk_172 (dk_at dksX0_pushesBy_3 8 rfl rfl)
abbrev MX0_pushesBy : jjM := (yX0_pushesBy, cX0_pushesBy, 6, (Option.some Jvm.ClassFile.FieldType.boolean))
theorem npX0_pushesBy : yX0_pushesBy.cls ≠ "java/lang/invoke/MethodHandle" ∧ yX0_pushesBy.cls ≠ "java/lang/invoke/VarHandle" ∧ (parseMethodDescriptor yX0_pushesBy.desc).map (fun d => d.parameters.length) = some 4 := by decide +kernel
abbrev cX0_night : ByteArray := prog_1_method_33_code
def yX0_night : MethodName := ⟨RX0, "night", "(I)I"⟩
def dkwX0_night_2 : List UInt8 := [180, 0, 12, 182, 0, 238, 28, 42, 182, 0, 241, 96, 61, 132, 3, 1, 167, 255, 234, 28, 172]
abbrev dktX0_night_2 : List UInt8 := dkwX0_night_2 ++ []
def dkwX0_night_1 : List UInt8 := [17, 39, 15, 164, 0, 5, 2, 172, 42, 182, 0, 235, 3, 61, 3, 62, 29, 27, 162, 0, 23, 42]
abbrev dktX0_night_1 : List UInt8 := dkwX0_night_1 ++ dktX0_night_2
def dkwX0_night_0 : List UInt8 := [27, 4, 16, 99, 184, 0, 74, 153, 0, 21, 42, 180, 0, 12, 180, 0, 78, 16, 44, 46, 27, 96]
abbrev dktX0_night_0 : List UInt8 := dkwX0_night_0 ++ dktX0_night_1
theorem dksX0_night_0 : cX0_night.data.toList.drop 0 = dktX0_night_0 := by decide +kernel
theorem dksX0_night_1 : cX0_night.data.toList.drop 22 = dktX0_night_1 := dk_seg dksX0_night_0 22 rfl rfl
theorem dksX0_night_2 : cX0_night.data.toList.drop 44 = dktX0_night_2 := dk_seg dksX0_night_1 22 rfl rfl
theorem dX0_night_0 : decode cX0_night 0 = .ok (.iload_n 1, 1) := dk_27 (dk_at dksX0_night_0 0 rfl rfl)
theorem dX0_night_1 : decode cX0_night 1 = .ok (.iconst 1, 1) := dk_4 (dk_at dksX0_night_0 1 rfl rfl)
theorem dX0_night_2 : decode cX0_night 2 = .ok (.bipush 99, 2) := dk_16 99 (dk_at dksX0_night_0 2 rfl rfl)
theorem dX0_night_4 : decode cX0_night 4 = .ok (.invokestatic 74, 3) := dk_184 0 74 (dk_at dksX0_night_0 4 rfl rfl)
theorem dX0_night_7 : decode cX0_night 7 = .ok (.ifCond .eq 21, 3) := dk_153 0 21 (dk_at dksX0_night_0 7 rfl rfl)
theorem dX0_night_10 : decode cX0_night 10 = .ok (.aload_n 0, 1) := dk_42 (dk_at dksX0_night_0 10 rfl rfl)
theorem dX0_night_11 : decode cX0_night 11 = .ok (.getfield 12, 3) := dk_180 0 12 (dk_at dksX0_night_0 11 rfl rfl)
theorem dX0_night_14 : decode cX0_night 14 = .ok (.getfield 78, 3) := dk_180 0 78 (dk_at dksX0_night_0 14 rfl rfl)
theorem dX0_night_17 : decode cX0_night 17 = .ok (.bipush 44, 2) := dk_16 44 (dk_at dksX0_night_0 17 rfl rfl)
theorem dX0_night_19 : decode cX0_night 19 = .ok (.iaload, 1) := dk_46 (dk_at dksX0_night_0 19 rfl rfl)
theorem dX0_night_20 : decode cX0_night 20 = .ok (.iload_n 1, 1) := dk_27 (dk_at dksX0_night_0 20 rfl rfl)
theorem dX0_night_21 : decode cX0_night 21 = .ok (.iadd, 1) := dk_96 (dk_at dksX0_night_0 21 rfl rfl)
theorem dX0_night_22 : decode cX0_night 22 = .ok (.sipush 9999, 3) := dk_17 39 15 (dk_at dksX0_night_1 0 rfl rfl)
theorem dX0_night_25 : decode cX0_night 25 = .ok (.if_icmp .le 5, 3) := dk_164 0 5 (dk_at dksX0_night_1 3 rfl rfl)
theorem dX0_night_28 : decode cX0_night 28 = .ok (.iconst (-1), 1) := dk_2 (dk_at dksX0_night_1 6 rfl rfl)
theorem dX0_night_29 : decode cX0_night 29 = .ok (.ireturn, 1) := dk_172 (dk_at dksX0_night_1 7 rfl rfl)
theorem dX0_night_30 : decode cX0_night 30 = .ok (.aload_n 0, 1) := dk_42 (dk_at dksX0_night_1 8 rfl rfl)
theorem dX0_night_31 : decode cX0_night 31 = .ok (.invokevirtual 235, 3) := dk_182 0 235 (dk_at dksX0_night_1 9 rfl rfl)
theorem dX0_night_34 : decode cX0_night 34 = .ok (.iconst 0, 1) := dk_3 (dk_at dksX0_night_1 12 rfl rfl)
theorem dX0_night_35 : decode cX0_night 35 = .ok (.istore_n 2, 1) := dk_61 (dk_at dksX0_night_1 13 rfl rfl)
theorem dX0_night_36 : decode cX0_night 36 = .ok (.iconst 0, 1) := dk_3 (dk_at dksX0_night_1 14 rfl rfl)
theorem dX0_night_37 : decode cX0_night 37 = .ok (.istore_n 3, 1) := dk_62 (dk_at dksX0_night_1 15 rfl rfl)
theorem dX0_night_38 : decode cX0_night 38 = .ok (.iload_n 3, 1) := dk_29 (dk_at dksX0_night_1 16 rfl rfl)
theorem dX0_night_39 : decode cX0_night 39 = .ok (.iload_n 1, 1) := dk_27 (dk_at dksX0_night_1 17 rfl rfl)
theorem dX0_night_40 : decode cX0_night 40 = .ok (.if_icmp .ge 23, 3) := dk_162 0 23 (dk_at dksX0_night_1 18 rfl rfl)
theorem dX0_night_43 : decode cX0_night 43 = .ok (.aload_n 0, 1) := dk_42 (dk_at dksX0_night_1 21 rfl rfl)
theorem dX0_night_44 : decode cX0_night 44 = .ok (.getfield 12, 3) := dk_180 0 12 (dk_at dksX0_night_2 0 rfl rfl)
theorem dX0_night_47 : decode cX0_night 47 = .ok (.invokevirtual 238, 3) := dk_182 0 238 (dk_at dksX0_night_2 3 rfl rfl)
theorem dX0_night_50 : decode cX0_night 50 = .ok (.iload_n 2, 1) := dk_28 (dk_at dksX0_night_2 6 rfl rfl)
theorem dX0_night_51 : decode cX0_night 51 = .ok (.aload_n 0, 1) := dk_42 (dk_at dksX0_night_2 7 rfl rfl)
theorem dX0_night_52 : decode cX0_night 52 = .ok (.invokevirtual 241, 3) := dk_182 0 241 (dk_at dksX0_night_2 8 rfl rfl)
theorem dX0_night_55 : decode cX0_night 55 = .ok (.iadd, 1) := dk_96 (dk_at dksX0_night_2 11 rfl rfl)
theorem dX0_night_56 : decode cX0_night 56 = .ok (.istore_n 2, 1) := dk_61 (dk_at dksX0_night_2 12 rfl rfl)
theorem dX0_night_57 : decode cX0_night 57 = .ok (.iinc 3 1, 3) := dk_132 3 1 (dk_at dksX0_night_2 13 rfl rfl)
theorem dX0_night_60 : decode cX0_night 60 = .ok (.goto (-22), 3) := dk_167 255 234 (dk_at dksX0_night_2 16 rfl rfl)
theorem dX0_night_63 : decode cX0_night 63 = .ok (.iload_n 2, 1) := dk_28 (dk_at dksX0_night_2 19 rfl rfl)
theorem dX0_night_64 : decode cX0_night 64 = .ok (.ireturn, 1) := dk_172 (dk_at dksX0_night_2 20 rfl rfl)
abbrev MX0_night : jjM := (yX0_night, cX0_night, 4, (Option.some Jvm.ClassFile.FieldType.int))
theorem npX0_night : yX0_night.cls ≠ "java/lang/invoke/MethodHandle" ∧ yX0_night.cls ≠ "java/lang/invoke/VarHandle" ∧ (parseMethodDescriptor yX0_night.desc).map (fun d => d.parameters.length) = some 1 := by decide +kernel
abbrev cX0_laysChange : ByteArray := prog_1_method_25_code
def yX0_laysChange : MethodName := ⟨RX0, "laysChange", "()V"⟩
def dkwX0_laysChange_6 : List UInt8 := [167, 255, 149, 177]
abbrev dktX0_laysChange_6 : List UInt8 := dkwX0_laysChange_6 ++ []
def dkwX0_laysChange_5 : List UInt8 := [27, 161, 0, 9, 4, 29, 120, 167, 0, 4, 3, 128, 79, 132, 3, 1, 167, 255, 177, 132, 2, 1]
abbrev dktX0_laysChange_5 : List UInt8 := dkwX0_laysChange_5 ++ dktX0_laysChange_6
def dkwX0_laysChange_4 : List UInt8 := [3, 182, 0, 164, 153, 0, 7, 4, 167, 0, 4, 3, 96, 54, 4, 42, 180, 0, 34, 28, 92, 46, 21, 4]
abbrev dktX0_laysChange_4 : List UInt8 := dkwX0_laysChange_4 ++ dktX0_laysChange_5
def dkwX0_laysChange_3 : List UInt8 := [160, 0, 6, 167, 0, 58, 42, 28, 29, 4, 182, 0, 164, 153, 0, 7, 4, 167, 0, 4, 3, 42, 29, 28]
abbrev dktX0_laysChange_3 : List UInt8 := dkwX0_laysChange_3 ++ dktX0_laysChange_4
def dkwX0_laysChange_2 : List UInt8 := [180, 0, 34, 28, 3, 79, 3, 62, 29, 42, 180, 0, 12, 180, 0, 71, 3, 46, 162, 0, 72, 28, 29]
abbrev dktX0_laysChange_2 : List UInt8 := dkwX0_laysChange_2 ++ dktX0_laysChange_3
def dkwX0_laysChange_1 : List UInt8 := [180, 0, 71, 4, 46, 60, 3, 61, 28, 42, 180, 0, 12, 180, 0, 71, 3, 46, 162, 0, 100, 42]
abbrev dktX0_laysChange_1 : List UInt8 := dkwX0_laysChange_1 ++ dktX0_laysChange_2
def dkwX0_laysChange_0 : List UInt8 := [42, 182, 0, 142, 180, 0, 203, 158, 0, 13, 42, 182, 0, 142, 180, 0, 203, 167, 0, 12, 42, 180, 0, 12]
abbrev dktX0_laysChange_0 : List UInt8 := dkwX0_laysChange_0 ++ dktX0_laysChange_1
theorem dksX0_laysChange_0 : cX0_laysChange.data.toList.drop 0 = dktX0_laysChange_0 := by decide +kernel
theorem dksX0_laysChange_1 : cX0_laysChange.data.toList.drop 24 = dktX0_laysChange_1 := dk_seg dksX0_laysChange_0 24 rfl rfl
theorem dksX0_laysChange_2 : cX0_laysChange.data.toList.drop 46 = dktX0_laysChange_2 := dk_seg dksX0_laysChange_1 22 rfl rfl
theorem dksX0_laysChange_3 : cX0_laysChange.data.toList.drop 69 = dktX0_laysChange_3 := dk_seg dksX0_laysChange_2 23 rfl rfl
theorem dksX0_laysChange_4 : cX0_laysChange.data.toList.drop 93 = dktX0_laysChange_4 := dk_seg dksX0_laysChange_3 24 rfl rfl
theorem dksX0_laysChange_5 : cX0_laysChange.data.toList.drop 117 = dktX0_laysChange_5 := dk_seg dksX0_laysChange_4 24 rfl rfl
theorem dksX0_laysChange_6 : cX0_laysChange.data.toList.drop 139 = dktX0_laysChange_6 := dk_seg dksX0_laysChange_5 22 rfl rfl
theorem dX0_laysChange_0 : decode cX0_laysChange 0 = .ok (.aload_n 0, 1) := dk_42 (dk_at dksX0_laysChange_0 0 rfl rfl)
theorem dX0_laysChange_1 : decode cX0_laysChange 1 = .ok (.invokevirtual 142, 3) := dk_182 0 142 (dk_at dksX0_laysChange_0 1 rfl rfl)
theorem dX0_laysChange_4 : decode cX0_laysChange 4 = .ok (.getfield 203, 3) := dk_180 0 203 (dk_at dksX0_laysChange_0 4 rfl rfl)
theorem dX0_laysChange_7 : decode cX0_laysChange 7 = .ok (.ifCond .le 13, 3) := dk_158 0 13 (dk_at dksX0_laysChange_0 7 rfl rfl)
theorem dX0_laysChange_10 : decode cX0_laysChange 10 = .ok (.aload_n 0, 1) := dk_42 (dk_at dksX0_laysChange_0 10 rfl rfl)
theorem dX0_laysChange_11 : decode cX0_laysChange 11 = .ok (.invokevirtual 142, 3) := dk_182 0 142 (dk_at dksX0_laysChange_0 11 rfl rfl)
theorem dX0_laysChange_14 : decode cX0_laysChange 14 = .ok (.getfield 203, 3) := dk_180 0 203 (dk_at dksX0_laysChange_0 14 rfl rfl)
theorem dX0_laysChange_17 : decode cX0_laysChange 17 = .ok (.goto 12, 3) := dk_167 0 12 (dk_at dksX0_laysChange_0 17 rfl rfl)
theorem dX0_laysChange_20 : decode cX0_laysChange 20 = .ok (.aload_n 0, 1) := dk_42 (dk_at dksX0_laysChange_0 20 rfl rfl)
theorem dX0_laysChange_21 : decode cX0_laysChange 21 = .ok (.getfield 12, 3) := dk_180 0 12 (dk_at dksX0_laysChange_0 21 rfl rfl)
theorem dX0_laysChange_24 : decode cX0_laysChange 24 = .ok (.getfield 71, 3) := dk_180 0 71 (dk_at dksX0_laysChange_1 0 rfl rfl)
theorem dX0_laysChange_27 : decode cX0_laysChange 27 = .ok (.iconst 1, 1) := dk_4 (dk_at dksX0_laysChange_1 3 rfl rfl)
theorem dX0_laysChange_28 : decode cX0_laysChange 28 = .ok (.iaload, 1) := dk_46 (dk_at dksX0_laysChange_1 4 rfl rfl)
theorem dX0_laysChange_29 : decode cX0_laysChange 29 = .ok (.istore_n 1, 1) := dk_60 (dk_at dksX0_laysChange_1 5 rfl rfl)
theorem dX0_laysChange_30 : decode cX0_laysChange 30 = .ok (.iconst 0, 1) := dk_3 (dk_at dksX0_laysChange_1 6 rfl rfl)
theorem dX0_laysChange_31 : decode cX0_laysChange 31 = .ok (.istore_n 2, 1) := dk_61 (dk_at dksX0_laysChange_1 7 rfl rfl)
theorem dX0_laysChange_32 : decode cX0_laysChange 32 = .ok (.iload_n 2, 1) := dk_28 (dk_at dksX0_laysChange_1 8 rfl rfl)
theorem dX0_laysChange_33 : decode cX0_laysChange 33 = .ok (.aload_n 0, 1) := dk_42 (dk_at dksX0_laysChange_1 9 rfl rfl)
theorem dX0_laysChange_34 : decode cX0_laysChange 34 = .ok (.getfield 12, 3) := dk_180 0 12 (dk_at dksX0_laysChange_1 10 rfl rfl)
theorem dX0_laysChange_37 : decode cX0_laysChange 37 = .ok (.getfield 71, 3) := dk_180 0 71 (dk_at dksX0_laysChange_1 13 rfl rfl)
theorem dX0_laysChange_40 : decode cX0_laysChange 40 = .ok (.iconst 0, 1) := dk_3 (dk_at dksX0_laysChange_1 16 rfl rfl)
theorem dX0_laysChange_41 : decode cX0_laysChange 41 = .ok (.iaload, 1) := dk_46 (dk_at dksX0_laysChange_1 17 rfl rfl)
theorem dX0_laysChange_42 : decode cX0_laysChange 42 = .ok (.if_icmp .ge 100, 3) := dk_162 0 100 (dk_at dksX0_laysChange_1 18 rfl rfl)
theorem dX0_laysChange_45 : decode cX0_laysChange 45 = .ok (.aload_n 0, 1) := dk_42 (dk_at dksX0_laysChange_1 21 rfl rfl)
theorem dX0_laysChange_46 : decode cX0_laysChange 46 = .ok (.getfield 34, 3) := dk_180 0 34 (dk_at dksX0_laysChange_2 0 rfl rfl)
theorem dX0_laysChange_49 : decode cX0_laysChange 49 = .ok (.iload_n 2, 1) := dk_28 (dk_at dksX0_laysChange_2 3 rfl rfl)
theorem dX0_laysChange_50 : decode cX0_laysChange 50 = .ok (.iconst 0, 1) := dk_3 (dk_at dksX0_laysChange_2 4 rfl rfl)
theorem dX0_laysChange_51 : decode cX0_laysChange 51 = .ok (.iastore, 1) := dk_79 (dk_at dksX0_laysChange_2 5 rfl rfl)
theorem dX0_laysChange_52 : decode cX0_laysChange 52 = .ok (.iconst 0, 1) := dk_3 (dk_at dksX0_laysChange_2 6 rfl rfl)
theorem dX0_laysChange_53 : decode cX0_laysChange 53 = .ok (.istore_n 3, 1) := dk_62 (dk_at dksX0_laysChange_2 7 rfl rfl)
theorem dX0_laysChange_54 : decode cX0_laysChange 54 = .ok (.iload_n 3, 1) := dk_29 (dk_at dksX0_laysChange_2 8 rfl rfl)
theorem dX0_laysChange_55 : decode cX0_laysChange 55 = .ok (.aload_n 0, 1) := dk_42 (dk_at dksX0_laysChange_2 9 rfl rfl)
theorem dX0_laysChange_56 : decode cX0_laysChange 56 = .ok (.getfield 12, 3) := dk_180 0 12 (dk_at dksX0_laysChange_2 10 rfl rfl)
theorem dX0_laysChange_59 : decode cX0_laysChange 59 = .ok (.getfield 71, 3) := dk_180 0 71 (dk_at dksX0_laysChange_2 13 rfl rfl)
theorem dX0_laysChange_62 : decode cX0_laysChange 62 = .ok (.iconst 0, 1) := dk_3 (dk_at dksX0_laysChange_2 16 rfl rfl)
theorem dX0_laysChange_63 : decode cX0_laysChange 63 = .ok (.iaload, 1) := dk_46 (dk_at dksX0_laysChange_2 17 rfl rfl)
theorem dX0_laysChange_64 : decode cX0_laysChange 64 = .ok (.if_icmp .ge 72, 3) := dk_162 0 72 (dk_at dksX0_laysChange_2 18 rfl rfl)
theorem dX0_laysChange_67 : decode cX0_laysChange 67 = .ok (.iload_n 2, 1) := dk_28 (dk_at dksX0_laysChange_2 21 rfl rfl)
theorem dX0_laysChange_68 : decode cX0_laysChange 68 = .ok (.iload_n 3, 1) := dk_29 (dk_at dksX0_laysChange_2 22 rfl rfl)
theorem dX0_laysChange_69 : decode cX0_laysChange 69 = .ok (.if_icmp .ne 6, 3) := dk_160 0 6 (dk_at dksX0_laysChange_3 0 rfl rfl)
theorem dX0_laysChange_72 : decode cX0_laysChange 72 = .ok (.goto 58, 3) := dk_167 0 58 (dk_at dksX0_laysChange_3 3 rfl rfl)
theorem dX0_laysChange_75 : decode cX0_laysChange 75 = .ok (.aload_n 0, 1) := dk_42 (dk_at dksX0_laysChange_3 6 rfl rfl)
theorem dX0_laysChange_76 : decode cX0_laysChange 76 = .ok (.iload_n 2, 1) := dk_28 (dk_at dksX0_laysChange_3 7 rfl rfl)
theorem dX0_laysChange_77 : decode cX0_laysChange 77 = .ok (.iload_n 3, 1) := dk_29 (dk_at dksX0_laysChange_3 8 rfl rfl)
theorem dX0_laysChange_78 : decode cX0_laysChange 78 = .ok (.iconst 1, 1) := dk_4 (dk_at dksX0_laysChange_3 9 rfl rfl)
theorem dX0_laysChange_79 : decode cX0_laysChange 79 = .ok (.invokevirtual 164, 3) := dk_182 0 164 (dk_at dksX0_laysChange_3 10 rfl rfl)
theorem dX0_laysChange_82 : decode cX0_laysChange 82 = .ok (.ifCond .eq 7, 3) := dk_153 0 7 (dk_at dksX0_laysChange_3 13 rfl rfl)
theorem dX0_laysChange_85 : decode cX0_laysChange 85 = .ok (.iconst 1, 1) := dk_4 (dk_at dksX0_laysChange_3 16 rfl rfl)
theorem dX0_laysChange_86 : decode cX0_laysChange 86 = .ok (.goto 4, 3) := dk_167 0 4 (dk_at dksX0_laysChange_3 17 rfl rfl)
theorem dX0_laysChange_89 : decode cX0_laysChange 89 = .ok (.iconst 0, 1) := dk_3 (dk_at dksX0_laysChange_3 20 rfl rfl)
theorem dX0_laysChange_90 : decode cX0_laysChange 90 = .ok (.aload_n 0, 1) := dk_42 (dk_at dksX0_laysChange_3 21 rfl rfl)
theorem dX0_laysChange_91 : decode cX0_laysChange 91 = .ok (.iload_n 3, 1) := dk_29 (dk_at dksX0_laysChange_3 22 rfl rfl)
theorem dX0_laysChange_92 : decode cX0_laysChange 92 = .ok (.iload_n 2, 1) := dk_28 (dk_at dksX0_laysChange_3 23 rfl rfl)
theorem dX0_laysChange_93 : decode cX0_laysChange 93 = .ok (.iconst 0, 1) := dk_3 (dk_at dksX0_laysChange_4 0 rfl rfl)
theorem dX0_laysChange_94 : decode cX0_laysChange 94 = .ok (.invokevirtual 164, 3) := dk_182 0 164 (dk_at dksX0_laysChange_4 1 rfl rfl)
theorem dX0_laysChange_97 : decode cX0_laysChange 97 = .ok (.ifCond .eq 7, 3) := dk_153 0 7 (dk_at dksX0_laysChange_4 4 rfl rfl)
theorem dX0_laysChange_100 : decode cX0_laysChange 100 = .ok (.iconst 1, 1) := dk_4 (dk_at dksX0_laysChange_4 7 rfl rfl)
theorem dX0_laysChange_101 : decode cX0_laysChange 101 = .ok (.goto 4, 3) := dk_167 0 4 (dk_at dksX0_laysChange_4 8 rfl rfl)
theorem dX0_laysChange_104 : decode cX0_laysChange 104 = .ok (.iconst 0, 1) := dk_3 (dk_at dksX0_laysChange_4 11 rfl rfl)
theorem dX0_laysChange_105 : decode cX0_laysChange 105 = .ok (.iadd, 1) := dk_96 (dk_at dksX0_laysChange_4 12 rfl rfl)
theorem dX0_laysChange_106 : decode cX0_laysChange 106 = .ok (.istore 4, 2) := dk_54 4 (dk_at dksX0_laysChange_4 13 rfl rfl)
theorem dX0_laysChange_108 : decode cX0_laysChange 108 = .ok (.aload_n 0, 1) := dk_42 (dk_at dksX0_laysChange_4 15 rfl rfl)
theorem dX0_laysChange_109 : decode cX0_laysChange 109 = .ok (.getfield 34, 3) := dk_180 0 34 (dk_at dksX0_laysChange_4 16 rfl rfl)
theorem dX0_laysChange_112 : decode cX0_laysChange 112 = .ok (.iload_n 2, 1) := dk_28 (dk_at dksX0_laysChange_4 19 rfl rfl)
theorem dX0_laysChange_113 : decode cX0_laysChange 113 = .ok (.dup2, 1) := dk_92 (dk_at dksX0_laysChange_4 20 rfl rfl)
theorem dX0_laysChange_114 : decode cX0_laysChange 114 = .ok (.iaload, 1) := dk_46 (dk_at dksX0_laysChange_4 21 rfl rfl)
theorem dX0_laysChange_115 : decode cX0_laysChange 115 = .ok (.iload 4, 2) := dk_21 4 (dk_at dksX0_laysChange_4 22 rfl rfl)
theorem dX0_laysChange_117 : decode cX0_laysChange 117 = .ok (.iload_n 1, 1) := dk_27 (dk_at dksX0_laysChange_5 0 rfl rfl)
theorem dX0_laysChange_118 : decode cX0_laysChange 118 = .ok (.if_icmp .lt 9, 3) := dk_161 0 9 (dk_at dksX0_laysChange_5 1 rfl rfl)
theorem dX0_laysChange_121 : decode cX0_laysChange 121 = .ok (.iconst 1, 1) := dk_4 (dk_at dksX0_laysChange_5 4 rfl rfl)
theorem dX0_laysChange_122 : decode cX0_laysChange 122 = .ok (.iload_n 3, 1) := dk_29 (dk_at dksX0_laysChange_5 5 rfl rfl)
theorem dX0_laysChange_123 : decode cX0_laysChange 123 = .ok (.ishl, 1) := dk_120 (dk_at dksX0_laysChange_5 6 rfl rfl)
theorem dX0_laysChange_124 : decode cX0_laysChange 124 = .ok (.goto 4, 3) := dk_167 0 4 (dk_at dksX0_laysChange_5 7 rfl rfl)
theorem dX0_laysChange_127 : decode cX0_laysChange 127 = .ok (.iconst 0, 1) := dk_3 (dk_at dksX0_laysChange_5 10 rfl rfl)
theorem dX0_laysChange_128 : decode cX0_laysChange 128 = .ok (.ior, 1) := dk_128 (dk_at dksX0_laysChange_5 11 rfl rfl)
theorem dX0_laysChange_129 : decode cX0_laysChange 129 = .ok (.iastore, 1) := dk_79 (dk_at dksX0_laysChange_5 12 rfl rfl)
theorem dX0_laysChange_130 : decode cX0_laysChange 130 = .ok (.iinc 3 1, 3) := dk_132 3 1 (dk_at dksX0_laysChange_5 13 rfl rfl)
theorem dX0_laysChange_133 : decode cX0_laysChange 133 = .ok (.goto (-79), 3) := dk_167 255 177 (dk_at dksX0_laysChange_5 16 rfl rfl)
theorem dX0_laysChange_136 : decode cX0_laysChange 136 = .ok (.iinc 2 1, 3) := dk_132 2 1 (dk_at dksX0_laysChange_5 19 rfl rfl)
theorem dX0_laysChange_139 : decode cX0_laysChange 139 = .ok (.goto (-107), 3) := dk_167 255 149 (dk_at dksX0_laysChange_6 0 rfl rfl)
theorem dX0_laysChange_142 : decode cX0_laysChange 142 = .ok (.return_, 1) := dk_177 (dk_at dksX0_laysChange_6 3 rfl rfl)
abbrev MX0_laysChange : jjM := (yX0_laysChange, cX0_laysChange, 5, (Option.none : Option Jvm.ClassFile.FieldType))
theorem npX0_laysChange : yX0_laysChange.cls ≠ "java/lang/invoke/MethodHandle" ∧ yX0_laysChange.cls ≠ "java/lang/invoke/VarHandle" ∧ (parseMethodDescriptor yX0_laysChange.desc).map (fun d => d.parameters.length) = some 0 := by decide +kernel
abbrev cX0_nightComes : ByteArray := prog_1_method_32_code
def yX0_nightComes : MethodName := ⟨RX0, "nightComes", "()I"⟩
def dkwX0_nightComes_3 : List UInt8 := [92, 46, 4, 96, 79, 42, 182, 0, 231, 62, 28, 172]
abbrev dktX0_nightComes_3 : List UInt8 := dkwX0_nightComes_3 ++ []
def dkwX0_nightComes_2 : List UInt8 := [182, 0, 189, 27, 182, 0, 227, 96, 61, 132, 3, 1, 167, 255, 213, 42, 180, 0, 12, 180, 0, 78, 16, 44]
abbrev dktX0_nightComes_2 : List UInt8 := dkwX0_nightComes_2 ++ dktX0_nightComes_3
def dkwX0_nightComes_1 : List UInt8 := [27, 182, 0, 224, 28, 42, 42, 180, 0, 12, 180, 0, 78, 16, 11, 29, 104, 4, 96, 42, 180, 0, 12, 29]
abbrev dktX0_nightComes_1 : List UInt8 := dkwX0_nightComes_1 ++ dktX0_nightComes_2
def dkwX0_nightComes_0 : List UInt8 := [42, 180, 0, 12, 180, 0, 78, 16, 44, 46, 5, 112, 60, 3, 61, 3, 62, 29, 6, 162, 0, 44, 42, 29]
abbrev dktX0_nightComes_0 : List UInt8 := dkwX0_nightComes_0 ++ dktX0_nightComes_1
theorem dksX0_nightComes_0 : cX0_nightComes.data.toList.drop 0 = dktX0_nightComes_0 := by decide +kernel
theorem dksX0_nightComes_1 : cX0_nightComes.data.toList.drop 24 = dktX0_nightComes_1 := dk_seg dksX0_nightComes_0 24 rfl rfl
theorem dksX0_nightComes_2 : cX0_nightComes.data.toList.drop 48 = dktX0_nightComes_2 := dk_seg dksX0_nightComes_1 24 rfl rfl
theorem dksX0_nightComes_3 : cX0_nightComes.data.toList.drop 72 = dktX0_nightComes_3 := dk_seg dksX0_nightComes_2 24 rfl rfl
theorem dX0_nightComes_0 : decode cX0_nightComes 0 = .ok (.aload_n 0, 1) := dk_42 (dk_at dksX0_nightComes_0 0 rfl rfl)
theorem dX0_nightComes_1 : decode cX0_nightComes 1 = .ok (.getfield 12, 3) := dk_180 0 12 (dk_at dksX0_nightComes_0 1 rfl rfl)
theorem dX0_nightComes_4 : decode cX0_nightComes 4 = .ok (.getfield 78, 3) := dk_180 0 78 (dk_at dksX0_nightComes_0 4 rfl rfl)
theorem dX0_nightComes_7 : decode cX0_nightComes 7 = .ok (.bipush 44, 2) := dk_16 44 (dk_at dksX0_nightComes_0 7 rfl rfl)
theorem dX0_nightComes_9 : decode cX0_nightComes 9 = .ok (.iaload, 1) := dk_46 (dk_at dksX0_nightComes_0 9 rfl rfl)
theorem dX0_nightComes_10 : decode cX0_nightComes 10 = .ok (.iconst 2, 1) := dk_5 (dk_at dksX0_nightComes_0 10 rfl rfl)
theorem dX0_nightComes_11 : decode cX0_nightComes 11 = .ok (.irem, 1) := dk_112 (dk_at dksX0_nightComes_0 11 rfl rfl)
theorem dX0_nightComes_12 : decode cX0_nightComes 12 = .ok (.istore_n 1, 1) := dk_60 (dk_at dksX0_nightComes_0 12 rfl rfl)
theorem dX0_nightComes_13 : decode cX0_nightComes 13 = .ok (.iconst 0, 1) := dk_3 (dk_at dksX0_nightComes_0 13 rfl rfl)
theorem dX0_nightComes_14 : decode cX0_nightComes 14 = .ok (.istore_n 2, 1) := dk_61 (dk_at dksX0_nightComes_0 14 rfl rfl)
theorem dX0_nightComes_15 : decode cX0_nightComes 15 = .ok (.iconst 0, 1) := dk_3 (dk_at dksX0_nightComes_0 15 rfl rfl)
theorem dX0_nightComes_16 : decode cX0_nightComes 16 = .ok (.istore_n 3, 1) := dk_62 (dk_at dksX0_nightComes_0 16 rfl rfl)
theorem dX0_nightComes_17 : decode cX0_nightComes 17 = .ok (.iload_n 3, 1) := dk_29 (dk_at dksX0_nightComes_0 17 rfl rfl)
theorem dX0_nightComes_18 : decode cX0_nightComes 18 = .ok (.iconst 3, 1) := dk_6 (dk_at dksX0_nightComes_0 18 rfl rfl)
theorem dX0_nightComes_19 : decode cX0_nightComes 19 = .ok (.if_icmp .ge 44, 3) := dk_162 0 44 (dk_at dksX0_nightComes_0 19 rfl rfl)
theorem dX0_nightComes_22 : decode cX0_nightComes 22 = .ok (.aload_n 0, 1) := dk_42 (dk_at dksX0_nightComes_0 22 rfl rfl)
theorem dX0_nightComes_23 : decode cX0_nightComes 23 = .ok (.iload_n 3, 1) := dk_29 (dk_at dksX0_nightComes_0 23 rfl rfl)
theorem dX0_nightComes_24 : decode cX0_nightComes 24 = .ok (.iload_n 1, 1) := dk_27 (dk_at dksX0_nightComes_1 0 rfl rfl)
theorem dX0_nightComes_25 : decode cX0_nightComes 25 = .ok (.invokevirtual 224, 3) := dk_182 0 224 (dk_at dksX0_nightComes_1 1 rfl rfl)
theorem dX0_nightComes_28 : decode cX0_nightComes 28 = .ok (.iload_n 2, 1) := dk_28 (dk_at dksX0_nightComes_1 4 rfl rfl)
theorem dX0_nightComes_29 : decode cX0_nightComes 29 = .ok (.aload_n 0, 1) := dk_42 (dk_at dksX0_nightComes_1 5 rfl rfl)
theorem dX0_nightComes_30 : decode cX0_nightComes 30 = .ok (.aload_n 0, 1) := dk_42 (dk_at dksX0_nightComes_1 6 rfl rfl)
theorem dX0_nightComes_31 : decode cX0_nightComes 31 = .ok (.getfield 12, 3) := dk_180 0 12 (dk_at dksX0_nightComes_1 7 rfl rfl)
theorem dX0_nightComes_34 : decode cX0_nightComes 34 = .ok (.getfield 78, 3) := dk_180 0 78 (dk_at dksX0_nightComes_1 10 rfl rfl)
theorem dX0_nightComes_37 : decode cX0_nightComes 37 = .ok (.bipush 11, 2) := dk_16 11 (dk_at dksX0_nightComes_1 13 rfl rfl)
theorem dX0_nightComes_39 : decode cX0_nightComes 39 = .ok (.iload_n 3, 1) := dk_29 (dk_at dksX0_nightComes_1 15 rfl rfl)
theorem dX0_nightComes_40 : decode cX0_nightComes 40 = .ok (.imul, 1) := dk_104 (dk_at dksX0_nightComes_1 16 rfl rfl)
theorem dX0_nightComes_41 : decode cX0_nightComes 41 = .ok (.iconst 1, 1) := dk_4 (dk_at dksX0_nightComes_1 17 rfl rfl)
theorem dX0_nightComes_42 : decode cX0_nightComes 42 = .ok (.iadd, 1) := dk_96 (dk_at dksX0_nightComes_1 18 rfl rfl)
theorem dX0_nightComes_43 : decode cX0_nightComes 43 = .ok (.aload_n 0, 1) := dk_42 (dk_at dksX0_nightComes_1 19 rfl rfl)
theorem dX0_nightComes_44 : decode cX0_nightComes 44 = .ok (.getfield 12, 3) := dk_180 0 12 (dk_at dksX0_nightComes_1 20 rfl rfl)
theorem dX0_nightComes_47 : decode cX0_nightComes 47 = .ok (.iload_n 3, 1) := dk_29 (dk_at dksX0_nightComes_1 23 rfl rfl)
theorem dX0_nightComes_48 : decode cX0_nightComes 48 = .ok (.invokevirtual 189, 3) := dk_182 0 189 (dk_at dksX0_nightComes_2 0 rfl rfl)
theorem dX0_nightComes_51 : decode cX0_nightComes 51 = .ok (.iload_n 1, 1) := dk_27 (dk_at dksX0_nightComes_2 3 rfl rfl)
theorem dX0_nightComes_52 : decode cX0_nightComes 52 = .ok (.invokevirtual 227, 3) := dk_182 0 227 (dk_at dksX0_nightComes_2 4 rfl rfl)
theorem dX0_nightComes_55 : decode cX0_nightComes 55 = .ok (.iadd, 1) := dk_96 (dk_at dksX0_nightComes_2 7 rfl rfl)
theorem dX0_nightComes_56 : decode cX0_nightComes 56 = .ok (.istore_n 2, 1) := dk_61 (dk_at dksX0_nightComes_2 8 rfl rfl)
theorem dX0_nightComes_57 : decode cX0_nightComes 57 = .ok (.iinc 3 1, 3) := dk_132 3 1 (dk_at dksX0_nightComes_2 9 rfl rfl)
theorem dX0_nightComes_60 : decode cX0_nightComes 60 = .ok (.goto (-43), 3) := dk_167 255 213 (dk_at dksX0_nightComes_2 12 rfl rfl)
theorem dX0_nightComes_63 : decode cX0_nightComes 63 = .ok (.aload_n 0, 1) := dk_42 (dk_at dksX0_nightComes_2 15 rfl rfl)
theorem dX0_nightComes_64 : decode cX0_nightComes 64 = .ok (.getfield 12, 3) := dk_180 0 12 (dk_at dksX0_nightComes_2 16 rfl rfl)
theorem dX0_nightComes_67 : decode cX0_nightComes 67 = .ok (.getfield 78, 3) := dk_180 0 78 (dk_at dksX0_nightComes_2 19 rfl rfl)
theorem dX0_nightComes_70 : decode cX0_nightComes 70 = .ok (.bipush 44, 2) := dk_16 44 (dk_at dksX0_nightComes_2 22 rfl rfl)
theorem dX0_nightComes_72 : decode cX0_nightComes 72 = .ok (.dup2, 1) := dk_92 (dk_at dksX0_nightComes_3 0 rfl rfl)
theorem dX0_nightComes_73 : decode cX0_nightComes 73 = .ok (.iaload, 1) := dk_46 (dk_at dksX0_nightComes_3 1 rfl rfl)
theorem dX0_nightComes_74 : decode cX0_nightComes 74 = .ok (.iconst 1, 1) := dk_4 (dk_at dksX0_nightComes_3 2 rfl rfl)
theorem dX0_nightComes_75 : decode cX0_nightComes 75 = .ok (.iadd, 1) := dk_96 (dk_at dksX0_nightComes_3 3 rfl rfl)
theorem dX0_nightComes_76 : decode cX0_nightComes 76 = .ok (.iastore, 1) := dk_79 (dk_at dksX0_nightComes_3 4 rfl rfl)
theorem dX0_nightComes_77 : decode cX0_nightComes 77 = .ok (.aload_n 0, 1) := dk_42 (dk_at dksX0_nightComes_3 5 rfl rfl)
theorem dX0_nightComes_78 : decode cX0_nightComes 78 = .ok (.invokevirtual 231, 3) := dk_182 0 231 (dk_at dksX0_nightComes_3 6 rfl rfl)
theorem dX0_nightComes_81 : decode cX0_nightComes 81 = .ok (.istore_n 3, 1) := dk_62 (dk_at dksX0_nightComes_3 9 rfl rfl)
theorem dX0_nightComes_82 : decode cX0_nightComes 82 = .ok (.iload_n 2, 1) := dk_28 (dk_at dksX0_nightComes_3 10 rfl rfl)
theorem dX0_nightComes_83 : decode cX0_nightComes 83 = .ok (.ireturn, 1) := dk_172 (dk_at dksX0_nightComes_3 11 rfl rfl)
abbrev MX0_nightComes : jjM := (yX0_nightComes, cX0_nightComes, 4, (Option.some Jvm.ClassFile.FieldType.int))
theorem npX0_nightComes : yX0_nightComes.cls ≠ "java/lang/invoke/MethodHandle" ∧ yX0_nightComes.cls ≠ "java/lang/invoke/VarHandle" ∧ (parseMethodDescriptor yX0_nightComes.desc).map (fun d => d.parameters.length) = some 0 := by decide +kernel
abbrev cX0_writesPushes : ByteArray := prog_1_method_31_code
def yX0_writesPushes : MethodName := ⟨RX0, "writesPushes", "(II)V"⟩
def dkwX0_writesPushes_4 : List UInt8 := [180, 0, 12, 21, 5, 21, 4, 27, 182, 0, 220, 132, 3, 2, 167, 255, 153, 177]
abbrev dktX0_writesPushes_4 : List UInt8 := dkwX0_writesPushes_4 ++ []
def dkwX0_writesPushes_3 : List UInt8 := [180, 0, 12, 21, 4, 21, 5, 27, 182, 0, 220, 42, 21, 5, 21, 4, 3, 182, 0, 164, 153, 0, 15, 42]
abbrev dktX0_writesPushes_3 : List UInt8 := dkwX0_writesPushes_3 ++ dktX0_writesPushes_4
def dkwX0_writesPushes_2 : List UInt8 := [182, 0, 206, 154, 0, 6, 167, 0, 51, 42, 21, 4, 21, 5, 4, 182, 0, 164, 153, 0, 15, 42]
abbrev dktX0_writesPushes_2 : List UInt8 := dkwX0_writesPushes_2 ++ dktX0_writesPushes_3
def dkwX0_writesPushes_1 : List UInt8 := [182, 0, 192, 54, 4, 42, 180, 0, 12, 27, 29, 4, 96, 182, 0, 192, 54, 5, 42, 21, 4, 21, 5]
abbrev dktX0_writesPushes_1 : List UInt8 := dkwX0_writesPushes_1 ++ dktX0_writesPushes_2
def dkwX0_writesPushes_0 : List UInt8 := [28, 62, 29, 4, 96, 42, 180, 0, 12, 27, 182, 0, 189, 162, 0, 95, 42, 180, 0, 12, 27, 29]
abbrev dktX0_writesPushes_0 : List UInt8 := dkwX0_writesPushes_0 ++ dktX0_writesPushes_1
theorem dksX0_writesPushes_0 : cX0_writesPushes.data.toList.drop 0 = dktX0_writesPushes_0 := by decide +kernel
theorem dksX0_writesPushes_1 : cX0_writesPushes.data.toList.drop 22 = dktX0_writesPushes_1 := dk_seg dksX0_writesPushes_0 22 rfl rfl
theorem dksX0_writesPushes_2 : cX0_writesPushes.data.toList.drop 45 = dktX0_writesPushes_2 := dk_seg dksX0_writesPushes_1 23 rfl rfl
theorem dksX0_writesPushes_3 : cX0_writesPushes.data.toList.drop 67 = dktX0_writesPushes_3 := dk_seg dksX0_writesPushes_2 22 rfl rfl
theorem dksX0_writesPushes_4 : cX0_writesPushes.data.toList.drop 91 = dktX0_writesPushes_4 := dk_seg dksX0_writesPushes_3 24 rfl rfl
theorem dX0_writesPushes_0 : decode cX0_writesPushes 0 = .ok (.iload_n 2, 1) := dk_28 (dk_at dksX0_writesPushes_0 0 rfl rfl)
theorem dX0_writesPushes_1 : decode cX0_writesPushes 1 = .ok (.istore_n 3, 1) := dk_62 (dk_at dksX0_writesPushes_0 1 rfl rfl)
theorem dX0_writesPushes_2 : decode cX0_writesPushes 2 = .ok (.iload_n 3, 1) := dk_29 (dk_at dksX0_writesPushes_0 2 rfl rfl)
theorem dX0_writesPushes_3 : decode cX0_writesPushes 3 = .ok (.iconst 1, 1) := dk_4 (dk_at dksX0_writesPushes_0 3 rfl rfl)
theorem dX0_writesPushes_4 : decode cX0_writesPushes 4 = .ok (.iadd, 1) := dk_96 (dk_at dksX0_writesPushes_0 4 rfl rfl)
theorem dX0_writesPushes_5 : decode cX0_writesPushes 5 = .ok (.aload_n 0, 1) := dk_42 (dk_at dksX0_writesPushes_0 5 rfl rfl)
theorem dX0_writesPushes_6 : decode cX0_writesPushes 6 = .ok (.getfield 12, 3) := dk_180 0 12 (dk_at dksX0_writesPushes_0 6 rfl rfl)
theorem dX0_writesPushes_9 : decode cX0_writesPushes 9 = .ok (.iload_n 1, 1) := dk_27 (dk_at dksX0_writesPushes_0 9 rfl rfl)
theorem dX0_writesPushes_10 : decode cX0_writesPushes 10 = .ok (.invokevirtual 189, 3) := dk_182 0 189 (dk_at dksX0_writesPushes_0 10 rfl rfl)
theorem dX0_writesPushes_13 : decode cX0_writesPushes 13 = .ok (.if_icmp .ge 95, 3) := dk_162 0 95 (dk_at dksX0_writesPushes_0 13 rfl rfl)
theorem dX0_writesPushes_16 : decode cX0_writesPushes 16 = .ok (.aload_n 0, 1) := dk_42 (dk_at dksX0_writesPushes_0 16 rfl rfl)
theorem dX0_writesPushes_17 : decode cX0_writesPushes 17 = .ok (.getfield 12, 3) := dk_180 0 12 (dk_at dksX0_writesPushes_0 17 rfl rfl)
theorem dX0_writesPushes_20 : decode cX0_writesPushes 20 = .ok (.iload_n 1, 1) := dk_27 (dk_at dksX0_writesPushes_0 20 rfl rfl)
theorem dX0_writesPushes_21 : decode cX0_writesPushes 21 = .ok (.iload_n 3, 1) := dk_29 (dk_at dksX0_writesPushes_0 21 rfl rfl)
theorem dX0_writesPushes_22 : decode cX0_writesPushes 22 = .ok (.invokevirtual 192, 3) := dk_182 0 192 (dk_at dksX0_writesPushes_1 0 rfl rfl)
theorem dX0_writesPushes_25 : decode cX0_writesPushes 25 = .ok (.istore 4, 2) := dk_54 4 (dk_at dksX0_writesPushes_1 3 rfl rfl)
theorem dX0_writesPushes_27 : decode cX0_writesPushes 27 = .ok (.aload_n 0, 1) := dk_42 (dk_at dksX0_writesPushes_1 5 rfl rfl)
theorem dX0_writesPushes_28 : decode cX0_writesPushes 28 = .ok (.getfield 12, 3) := dk_180 0 12 (dk_at dksX0_writesPushes_1 6 rfl rfl)
theorem dX0_writesPushes_31 : decode cX0_writesPushes 31 = .ok (.iload_n 1, 1) := dk_27 (dk_at dksX0_writesPushes_1 9 rfl rfl)
theorem dX0_writesPushes_32 : decode cX0_writesPushes 32 = .ok (.iload_n 3, 1) := dk_29 (dk_at dksX0_writesPushes_1 10 rfl rfl)
theorem dX0_writesPushes_33 : decode cX0_writesPushes 33 = .ok (.iconst 1, 1) := dk_4 (dk_at dksX0_writesPushes_1 11 rfl rfl)
theorem dX0_writesPushes_34 : decode cX0_writesPushes 34 = .ok (.iadd, 1) := dk_96 (dk_at dksX0_writesPushes_1 12 rfl rfl)
theorem dX0_writesPushes_35 : decode cX0_writesPushes 35 = .ok (.invokevirtual 192, 3) := dk_182 0 192 (dk_at dksX0_writesPushes_1 13 rfl rfl)
theorem dX0_writesPushes_38 : decode cX0_writesPushes 38 = .ok (.istore 5, 2) := dk_54 5 (dk_at dksX0_writesPushes_1 16 rfl rfl)
theorem dX0_writesPushes_40 : decode cX0_writesPushes 40 = .ok (.aload_n 0, 1) := dk_42 (dk_at dksX0_writesPushes_1 18 rfl rfl)
theorem dX0_writesPushes_41 : decode cX0_writesPushes 41 = .ok (.iload 4, 2) := dk_21 4 (dk_at dksX0_writesPushes_1 19 rfl rfl)
theorem dX0_writesPushes_43 : decode cX0_writesPushes 43 = .ok (.iload 5, 2) := dk_21 5 (dk_at dksX0_writesPushes_1 21 rfl rfl)
theorem dX0_writesPushes_45 : decode cX0_writesPushes 45 = .ok (.invokevirtual 206, 3) := dk_182 0 206 (dk_at dksX0_writesPushes_2 0 rfl rfl)
theorem dX0_writesPushes_48 : decode cX0_writesPushes 48 = .ok (.ifCond .ne 6, 3) := dk_154 0 6 (dk_at dksX0_writesPushes_2 3 rfl rfl)
theorem dX0_writesPushes_51 : decode cX0_writesPushes 51 = .ok (.goto 51, 3) := dk_167 0 51 (dk_at dksX0_writesPushes_2 6 rfl rfl)
theorem dX0_writesPushes_54 : decode cX0_writesPushes 54 = .ok (.aload_n 0, 1) := dk_42 (dk_at dksX0_writesPushes_2 9 rfl rfl)
theorem dX0_writesPushes_55 : decode cX0_writesPushes 55 = .ok (.iload 4, 2) := dk_21 4 (dk_at dksX0_writesPushes_2 10 rfl rfl)
theorem dX0_writesPushes_57 : decode cX0_writesPushes 57 = .ok (.iload 5, 2) := dk_21 5 (dk_at dksX0_writesPushes_2 12 rfl rfl)
theorem dX0_writesPushes_59 : decode cX0_writesPushes 59 = .ok (.iconst 1, 1) := dk_4 (dk_at dksX0_writesPushes_2 14 rfl rfl)
theorem dX0_writesPushes_60 : decode cX0_writesPushes 60 = .ok (.invokevirtual 164, 3) := dk_182 0 164 (dk_at dksX0_writesPushes_2 15 rfl rfl)
theorem dX0_writesPushes_63 : decode cX0_writesPushes 63 = .ok (.ifCond .eq 15, 3) := dk_153 0 15 (dk_at dksX0_writesPushes_2 18 rfl rfl)
theorem dX0_writesPushes_66 : decode cX0_writesPushes 66 = .ok (.aload_n 0, 1) := dk_42 (dk_at dksX0_writesPushes_2 21 rfl rfl)
theorem dX0_writesPushes_67 : decode cX0_writesPushes 67 = .ok (.getfield 12, 3) := dk_180 0 12 (dk_at dksX0_writesPushes_3 0 rfl rfl)
theorem dX0_writesPushes_70 : decode cX0_writesPushes 70 = .ok (.iload 4, 2) := dk_21 4 (dk_at dksX0_writesPushes_3 3 rfl rfl)
theorem dX0_writesPushes_72 : decode cX0_writesPushes 72 = .ok (.iload 5, 2) := dk_21 5 (dk_at dksX0_writesPushes_3 5 rfl rfl)
theorem dX0_writesPushes_74 : decode cX0_writesPushes 74 = .ok (.iload_n 1, 1) := dk_27 (dk_at dksX0_writesPushes_3 7 rfl rfl)
theorem dX0_writesPushes_75 : decode cX0_writesPushes 75 = .ok (.invokevirtual 220, 3) := dk_182 0 220 (dk_at dksX0_writesPushes_3 8 rfl rfl)
theorem dX0_writesPushes_78 : decode cX0_writesPushes 78 = .ok (.aload_n 0, 1) := dk_42 (dk_at dksX0_writesPushes_3 11 rfl rfl)
theorem dX0_writesPushes_79 : decode cX0_writesPushes 79 = .ok (.iload 5, 2) := dk_21 5 (dk_at dksX0_writesPushes_3 12 rfl rfl)
theorem dX0_writesPushes_81 : decode cX0_writesPushes 81 = .ok (.iload 4, 2) := dk_21 4 (dk_at dksX0_writesPushes_3 14 rfl rfl)
theorem dX0_writesPushes_83 : decode cX0_writesPushes 83 = .ok (.iconst 0, 1) := dk_3 (dk_at dksX0_writesPushes_3 16 rfl rfl)
theorem dX0_writesPushes_84 : decode cX0_writesPushes 84 = .ok (.invokevirtual 164, 3) := dk_182 0 164 (dk_at dksX0_writesPushes_3 17 rfl rfl)
theorem dX0_writesPushes_87 : decode cX0_writesPushes 87 = .ok (.ifCond .eq 15, 3) := dk_153 0 15 (dk_at dksX0_writesPushes_3 20 rfl rfl)
theorem dX0_writesPushes_90 : decode cX0_writesPushes 90 = .ok (.aload_n 0, 1) := dk_42 (dk_at dksX0_writesPushes_3 23 rfl rfl)
theorem dX0_writesPushes_91 : decode cX0_writesPushes 91 = .ok (.getfield 12, 3) := dk_180 0 12 (dk_at dksX0_writesPushes_4 0 rfl rfl)
theorem dX0_writesPushes_94 : decode cX0_writesPushes 94 = .ok (.iload 5, 2) := dk_21 5 (dk_at dksX0_writesPushes_4 3 rfl rfl)
theorem dX0_writesPushes_96 : decode cX0_writesPushes 96 = .ok (.iload 4, 2) := dk_21 4 (dk_at dksX0_writesPushes_4 5 rfl rfl)
theorem dX0_writesPushes_98 : decode cX0_writesPushes 98 = .ok (.iload_n 1, 1) := dk_27 (dk_at dksX0_writesPushes_4 7 rfl rfl)
theorem dX0_writesPushes_99 : decode cX0_writesPushes 99 = .ok (.invokevirtual 220, 3) := dk_182 0 220 (dk_at dksX0_writesPushes_4 8 rfl rfl)
theorem dX0_writesPushes_102 : decode cX0_writesPushes 102 = .ok (.iinc 3 2, 3) := dk_132 3 2 (dk_at dksX0_writesPushes_4 11 rfl rfl)
theorem dX0_writesPushes_105 : decode cX0_writesPushes 105 = .ok (.goto (-103), 3) := dk_167 255 153 (dk_at dksX0_writesPushes_4 14 rfl rfl)
theorem dX0_writesPushes_108 : decode cX0_writesPushes 108 = .ok (.return_, 1) := dk_177 (dk_at dksX0_writesPushes_4 17 rfl rfl)
abbrev MX0_writesPushes : jjM := (yX0_writesPushes, cX0_writesPushes, 6, (Option.none : Option Jvm.ClassFile.FieldType))
theorem npX0_writesPushes : yX0_writesPushes.cls ≠ "java/lang/invoke/MethodHandle" ∧ yX0_writesPushes.cls ≠ "java/lang/invoke/VarHandle" ∧ (parseMethodDescriptor yX0_writesPushes.desc).map (fun d => d.parameters.length) = some 2 := by decide +kernel
abbrev cX0_doChange : ByteArray := prog_1_method_26_code
def yX0_doChange : MethodName := ⟨RX0, "doChange", "(II)Z"⟩
def dkwX0_doChange_0 : List UInt8 := [42, 180, 0, 34, 27, 46, 28, 122, 4, 126, 4, 160, 0, 7, 4, 167, 0, 4, 3, 172]
abbrev dktX0_doChange_0 : List UInt8 := dkwX0_doChange_0 ++ []
theorem dksX0_doChange_0 : cX0_doChange.data.toList.drop 0 = dktX0_doChange_0 := by decide +kernel
theorem dX0_doChange_0 : decode cX0_doChange 0 = .ok (.aload_n 0, 1) := dk_42 (dk_at dksX0_doChange_0 0 rfl rfl)
theorem dX0_doChange_1 : decode cX0_doChange 1 = .ok (.getfield 34, 3) := dk_180 0 34 (dk_at dksX0_doChange_0 1 rfl rfl)
theorem dX0_doChange_4 : decode cX0_doChange 4 = .ok (.iload_n 1, 1) := dk_27 (dk_at dksX0_doChange_0 4 rfl rfl)
theorem dX0_doChange_5 : decode cX0_doChange 5 = .ok (.iaload, 1) := dk_46 (dk_at dksX0_doChange_0 5 rfl rfl)
theorem dX0_doChange_6 : decode cX0_doChange 6 = .ok (.iload_n 2, 1) := dk_28 (dk_at dksX0_doChange_0 6 rfl rfl)
theorem dX0_doChange_7 : decode cX0_doChange 7 = .ok (.ishr, 1) := dk_122 (dk_at dksX0_doChange_0 7 rfl rfl)
theorem dX0_doChange_8 : decode cX0_doChange 8 = .ok (.iconst 1, 1) := dk_4 (dk_at dksX0_doChange_0 8 rfl rfl)
theorem dX0_doChange_9 : decode cX0_doChange 9 = .ok (.iand, 1) := dk_126 (dk_at dksX0_doChange_0 9 rfl rfl)
theorem dX0_doChange_10 : decode cX0_doChange 10 = .ok (.iconst 1, 1) := dk_4 (dk_at dksX0_doChange_0 10 rfl rfl)
theorem dX0_doChange_11 : decode cX0_doChange 11 = .ok (.if_icmp .ne 7, 3) := dk_160 0 7 (dk_at dksX0_doChange_0 11 rfl rfl)
theorem dX0_doChange_14 : decode cX0_doChange 14 = .ok (.iconst 1, 1) := dk_4 (dk_at dksX0_doChange_0 14 rfl rfl)
theorem dX0_doChange_15 : decode cX0_doChange 15 = .ok (.goto 4, 3) := dk_167 0 4 (dk_at dksX0_doChange_0 15 rfl rfl)
theorem dX0_doChange_18 : decode cX0_doChange 18 = .ok (.iconst 0, 1) := dk_3 (dk_at dksX0_doChange_0 18 rfl rfl)
theorem dX0_doChange_19 : decode cX0_doChange 19 = .ok (.ireturn, 1) := dk_172 (dk_at dksX0_doChange_0 19 rfl rfl)
abbrev MX0_doChange : jjM := (yX0_doChange, cX0_doChange, 3, (Option.some Jvm.ClassFile.FieldType.boolean))
theorem npX0_doChange : yX0_doChange.cls ≠ "java/lang/invoke/MethodHandle" ∧ yX0_doChange.cls ≠ "java/lang/invoke/VarHandle" ∧ (parseMethodDescriptor yX0_doChange.desc).map (fun d => d.parameters.length) = some 2 := by decide +kernel
abbrev cX0_nightOn : ByteArray := prog_1_method_27_code
def yX0_nightOn : MethodName := ⟨RX0, "nightOn", "([IIII)I"⟩
def dkwX0_nightOn_3 : List UInt8 := [167, 255, 192, 21, 5, 172]
abbrev dktX0_nightOn_3 : List UInt8 := dkwX0_nightOn_3 ++ []
def dkwX0_nightOn_2 : List UInt8 := [28, 21, 6, 96, 21, 8, 79, 43, 28, 21, 6, 96, 4, 96, 21, 7, 79, 132, 5, 1, 132, 6, 2]
abbrev dktX0_nightOn_2 : List UInt8 := dkwX0_nightOn_2 ++ dktX0_nightOn_3
def dkwX0_nightOn_1 : List UInt8 := [28, 21, 6, 96, 4, 96, 46, 54, 8, 42, 21, 7, 21, 8, 182, 0, 206, 154, 0, 6, 167, 0, 24, 43]
abbrev dktX0_nightOn_1 : List UInt8 := dkwX0_nightOn_1 ++ dktX0_nightOn_2
def dkwX0_nightOn_0 : List UInt8 := [3, 54, 5, 21, 4, 54, 6, 21, 6, 4, 96, 29, 162, 0, 62, 43, 28, 21, 6, 96, 46, 54, 7, 43]
abbrev dktX0_nightOn_0 : List UInt8 := dkwX0_nightOn_0 ++ dktX0_nightOn_1
theorem dksX0_nightOn_0 : cX0_nightOn.data.toList.drop 0 = dktX0_nightOn_0 := by decide +kernel
theorem dksX0_nightOn_1 : cX0_nightOn.data.toList.drop 24 = dktX0_nightOn_1 := dk_seg dksX0_nightOn_0 24 rfl rfl
theorem dksX0_nightOn_2 : cX0_nightOn.data.toList.drop 48 = dktX0_nightOn_2 := dk_seg dksX0_nightOn_1 24 rfl rfl
theorem dksX0_nightOn_3 : cX0_nightOn.data.toList.drop 71 = dktX0_nightOn_3 := dk_seg dksX0_nightOn_2 23 rfl rfl
theorem dX0_nightOn_0 : decode cX0_nightOn 0 = .ok (.iconst 0, 1) := dk_3 (dk_at dksX0_nightOn_0 0 rfl rfl)
theorem dX0_nightOn_1 : decode cX0_nightOn 1 = .ok (.istore 5, 2) := dk_54 5 (dk_at dksX0_nightOn_0 1 rfl rfl)
theorem dX0_nightOn_3 : decode cX0_nightOn 3 = .ok (.iload 4, 2) := dk_21 4 (dk_at dksX0_nightOn_0 3 rfl rfl)
theorem dX0_nightOn_5 : decode cX0_nightOn 5 = .ok (.istore 6, 2) := dk_54 6 (dk_at dksX0_nightOn_0 5 rfl rfl)
theorem dX0_nightOn_7 : decode cX0_nightOn 7 = .ok (.iload 6, 2) := dk_21 6 (dk_at dksX0_nightOn_0 7 rfl rfl)
theorem dX0_nightOn_9 : decode cX0_nightOn 9 = .ok (.iconst 1, 1) := dk_4 (dk_at dksX0_nightOn_0 9 rfl rfl)
theorem dX0_nightOn_10 : decode cX0_nightOn 10 = .ok (.iadd, 1) := dk_96 (dk_at dksX0_nightOn_0 10 rfl rfl)
theorem dX0_nightOn_11 : decode cX0_nightOn 11 = .ok (.iload_n 3, 1) := dk_29 (dk_at dksX0_nightOn_0 11 rfl rfl)
theorem dX0_nightOn_12 : decode cX0_nightOn 12 = .ok (.if_icmp .ge 62, 3) := dk_162 0 62 (dk_at dksX0_nightOn_0 12 rfl rfl)
theorem dX0_nightOn_15 : decode cX0_nightOn 15 = .ok (.aload_n 1, 1) := dk_43 (dk_at dksX0_nightOn_0 15 rfl rfl)
theorem dX0_nightOn_16 : decode cX0_nightOn 16 = .ok (.iload_n 2, 1) := dk_28 (dk_at dksX0_nightOn_0 16 rfl rfl)
theorem dX0_nightOn_17 : decode cX0_nightOn 17 = .ok (.iload 6, 2) := dk_21 6 (dk_at dksX0_nightOn_0 17 rfl rfl)
theorem dX0_nightOn_19 : decode cX0_nightOn 19 = .ok (.iadd, 1) := dk_96 (dk_at dksX0_nightOn_0 19 rfl rfl)
theorem dX0_nightOn_20 : decode cX0_nightOn 20 = .ok (.iaload, 1) := dk_46 (dk_at dksX0_nightOn_0 20 rfl rfl)
theorem dX0_nightOn_21 : decode cX0_nightOn 21 = .ok (.istore 7, 2) := dk_54 7 (dk_at dksX0_nightOn_0 21 rfl rfl)
theorem dX0_nightOn_23 : decode cX0_nightOn 23 = .ok (.aload_n 1, 1) := dk_43 (dk_at dksX0_nightOn_0 23 rfl rfl)
theorem dX0_nightOn_24 : decode cX0_nightOn 24 = .ok (.iload_n 2, 1) := dk_28 (dk_at dksX0_nightOn_1 0 rfl rfl)
theorem dX0_nightOn_25 : decode cX0_nightOn 25 = .ok (.iload 6, 2) := dk_21 6 (dk_at dksX0_nightOn_1 1 rfl rfl)
theorem dX0_nightOn_27 : decode cX0_nightOn 27 = .ok (.iadd, 1) := dk_96 (dk_at dksX0_nightOn_1 3 rfl rfl)
theorem dX0_nightOn_28 : decode cX0_nightOn 28 = .ok (.iconst 1, 1) := dk_4 (dk_at dksX0_nightOn_1 4 rfl rfl)
theorem dX0_nightOn_29 : decode cX0_nightOn 29 = .ok (.iadd, 1) := dk_96 (dk_at dksX0_nightOn_1 5 rfl rfl)
theorem dX0_nightOn_30 : decode cX0_nightOn 30 = .ok (.iaload, 1) := dk_46 (dk_at dksX0_nightOn_1 6 rfl rfl)
theorem dX0_nightOn_31 : decode cX0_nightOn 31 = .ok (.istore 8, 2) := dk_54 8 (dk_at dksX0_nightOn_1 7 rfl rfl)
theorem dX0_nightOn_33 : decode cX0_nightOn 33 = .ok (.aload_n 0, 1) := dk_42 (dk_at dksX0_nightOn_1 9 rfl rfl)
theorem dX0_nightOn_34 : decode cX0_nightOn 34 = .ok (.iload 7, 2) := dk_21 7 (dk_at dksX0_nightOn_1 10 rfl rfl)
theorem dX0_nightOn_36 : decode cX0_nightOn 36 = .ok (.iload 8, 2) := dk_21 8 (dk_at dksX0_nightOn_1 12 rfl rfl)
theorem dX0_nightOn_38 : decode cX0_nightOn 38 = .ok (.invokevirtual 206, 3) := dk_182 0 206 (dk_at dksX0_nightOn_1 14 rfl rfl)
theorem dX0_nightOn_41 : decode cX0_nightOn 41 = .ok (.ifCond .ne 6, 3) := dk_154 0 6 (dk_at dksX0_nightOn_1 17 rfl rfl)
theorem dX0_nightOn_44 : decode cX0_nightOn 44 = .ok (.goto 24, 3) := dk_167 0 24 (dk_at dksX0_nightOn_1 20 rfl rfl)
theorem dX0_nightOn_47 : decode cX0_nightOn 47 = .ok (.aload_n 1, 1) := dk_43 (dk_at dksX0_nightOn_1 23 rfl rfl)
theorem dX0_nightOn_48 : decode cX0_nightOn 48 = .ok (.iload_n 2, 1) := dk_28 (dk_at dksX0_nightOn_2 0 rfl rfl)
theorem dX0_nightOn_49 : decode cX0_nightOn 49 = .ok (.iload 6, 2) := dk_21 6 (dk_at dksX0_nightOn_2 1 rfl rfl)
theorem dX0_nightOn_51 : decode cX0_nightOn 51 = .ok (.iadd, 1) := dk_96 (dk_at dksX0_nightOn_2 3 rfl rfl)
theorem dX0_nightOn_52 : decode cX0_nightOn 52 = .ok (.iload 8, 2) := dk_21 8 (dk_at dksX0_nightOn_2 4 rfl rfl)
theorem dX0_nightOn_54 : decode cX0_nightOn 54 = .ok (.iastore, 1) := dk_79 (dk_at dksX0_nightOn_2 6 rfl rfl)
theorem dX0_nightOn_55 : decode cX0_nightOn 55 = .ok (.aload_n 1, 1) := dk_43 (dk_at dksX0_nightOn_2 7 rfl rfl)
theorem dX0_nightOn_56 : decode cX0_nightOn 56 = .ok (.iload_n 2, 1) := dk_28 (dk_at dksX0_nightOn_2 8 rfl rfl)
theorem dX0_nightOn_57 : decode cX0_nightOn 57 = .ok (.iload 6, 2) := dk_21 6 (dk_at dksX0_nightOn_2 9 rfl rfl)
theorem dX0_nightOn_59 : decode cX0_nightOn 59 = .ok (.iadd, 1) := dk_96 (dk_at dksX0_nightOn_2 11 rfl rfl)
theorem dX0_nightOn_60 : decode cX0_nightOn 60 = .ok (.iconst 1, 1) := dk_4 (dk_at dksX0_nightOn_2 12 rfl rfl)
theorem dX0_nightOn_61 : decode cX0_nightOn 61 = .ok (.iadd, 1) := dk_96 (dk_at dksX0_nightOn_2 13 rfl rfl)
theorem dX0_nightOn_62 : decode cX0_nightOn 62 = .ok (.iload 7, 2) := dk_21 7 (dk_at dksX0_nightOn_2 14 rfl rfl)
theorem dX0_nightOn_64 : decode cX0_nightOn 64 = .ok (.iastore, 1) := dk_79 (dk_at dksX0_nightOn_2 16 rfl rfl)
theorem dX0_nightOn_65 : decode cX0_nightOn 65 = .ok (.iinc 5 1, 3) := dk_132 5 1 (dk_at dksX0_nightOn_2 17 rfl rfl)
theorem dX0_nightOn_68 : decode cX0_nightOn 68 = .ok (.iinc 6 2, 3) := dk_132 6 2 (dk_at dksX0_nightOn_2 20 rfl rfl)
theorem dX0_nightOn_71 : decode cX0_nightOn 71 = .ok (.goto (-64), 3) := dk_167 255 192 (dk_at dksX0_nightOn_3 0 rfl rfl)
theorem dX0_nightOn_74 : decode cX0_nightOn 74 = .ok (.iload 5, 2) := dk_21 5 (dk_at dksX0_nightOn_3 3 rfl rfl)
theorem dX0_nightOn_76 : decode cX0_nightOn 76 = .ok (.ireturn, 1) := dk_172 (dk_at dksX0_nightOn_3 5 rfl rfl)
abbrev MX0_nightOn : jjM := (yX0_nightOn, cX0_nightOn, 9, (Option.some Jvm.ClassFile.FieldType.int))
theorem npX0_nightOn : yX0_nightOn.cls ≠ "java/lang/invoke/MethodHandle" ∧ yX0_nightOn.cls ≠ "java/lang/invoke/VarHandle" ∧ (parseMethodDescriptor yX0_nightOn.desc).map (fun d => d.parameters.length) = some 4 := by decide +kernel
abbrev cX0_fall : ByteArray := prog_1_method_30_code
def yX0_fall : MethodName := ⟨RX0, "fall", "()I"⟩
def dkwX0_fall_5 : List UInt8 := [132, 2, 1, 167, 255, 139, 27, 172]
abbrev dktX0_fall_5 : List UInt8 := dkwX0_fall_5 ++ []
def dkwX0_fall_4 : List UInt8 := [182, 0, 189, 4, 100, 182, 0, 217, 167, 255, 224, 27, 29, 42, 180, 0, 12, 28, 182, 0, 189, 100, 96, 60]
abbrev dktX0_fall_4 : List UInt8 := dkwX0_fall_4 ++ dktX0_fall_5
def dkwX0_fall_3 : List UInt8 := [182, 0, 90, 42, 180, 0, 12, 180, 0, 93, 28, 46, 164, 0, 21, 42, 28, 42, 180, 0, 12, 28]
abbrev dktX0_fall_3 : List UInt8 := dkwX0_fall_3 ++ dktX0_fall_4
def dkwX0_fall_2 : List UInt8 := [153, 0, 13, 42, 28, 21, 5, 182, 0, 217, 167, 0, 6, 132, 5, 1, 132, 4, 1, 167, 255, 213, 42, 28]
abbrev dktX0_fall_2 : List UInt8 := dkwX0_fall_2 ++ dktX0_fall_3
def dkwX0_fall_1 : List UInt8 := [21, 4, 29, 162, 0, 43, 42, 42, 180, 0, 12, 28, 21, 5, 182, 0, 192, 28, 21, 4, 29, 182, 0, 214]
abbrev dktX0_fall_1 : List UInt8 := dkwX0_fall_1 ++ dktX0_fall_2
def dkwX0_fall_0 : List UInt8 := [3, 60, 3, 61, 28, 6, 162, 0, 118, 42, 180, 0, 12, 28, 182, 0, 189, 62, 3, 54, 4, 3, 54, 5]
abbrev dktX0_fall_0 : List UInt8 := dkwX0_fall_0 ++ dktX0_fall_1
theorem dksX0_fall_0 : cX0_fall.data.toList.drop 0 = dktX0_fall_0 := by decide +kernel
theorem dksX0_fall_1 : cX0_fall.data.toList.drop 24 = dktX0_fall_1 := dk_seg dksX0_fall_0 24 rfl rfl
theorem dksX0_fall_2 : cX0_fall.data.toList.drop 48 = dktX0_fall_2 := dk_seg dksX0_fall_1 24 rfl rfl
theorem dksX0_fall_3 : cX0_fall.data.toList.drop 72 = dktX0_fall_3 := dk_seg dksX0_fall_2 24 rfl rfl
theorem dksX0_fall_4 : cX0_fall.data.toList.drop 94 = dktX0_fall_4 := dk_seg dksX0_fall_3 22 rfl rfl
theorem dksX0_fall_5 : cX0_fall.data.toList.drop 118 = dktX0_fall_5 := dk_seg dksX0_fall_4 24 rfl rfl
theorem dX0_fall_0 : decode cX0_fall 0 = .ok (.iconst 0, 1) := dk_3 (dk_at dksX0_fall_0 0 rfl rfl)
theorem dX0_fall_1 : decode cX0_fall 1 = .ok (.istore_n 1, 1) := dk_60 (dk_at dksX0_fall_0 1 rfl rfl)
theorem dX0_fall_2 : decode cX0_fall 2 = .ok (.iconst 0, 1) := dk_3 (dk_at dksX0_fall_0 2 rfl rfl)
theorem dX0_fall_3 : decode cX0_fall 3 = .ok (.istore_n 2, 1) := dk_61 (dk_at dksX0_fall_0 3 rfl rfl)
theorem dX0_fall_4 : decode cX0_fall 4 = .ok (.iload_n 2, 1) := dk_28 (dk_at dksX0_fall_0 4 rfl rfl)
theorem dX0_fall_5 : decode cX0_fall 5 = .ok (.iconst 3, 1) := dk_6 (dk_at dksX0_fall_0 5 rfl rfl)
theorem dX0_fall_6 : decode cX0_fall 6 = .ok (.if_icmp .ge 118, 3) := dk_162 0 118 (dk_at dksX0_fall_0 6 rfl rfl)
theorem dX0_fall_9 : decode cX0_fall 9 = .ok (.aload_n 0, 1) := dk_42 (dk_at dksX0_fall_0 9 rfl rfl)
theorem dX0_fall_10 : decode cX0_fall 10 = .ok (.getfield 12, 3) := dk_180 0 12 (dk_at dksX0_fall_0 10 rfl rfl)
theorem dX0_fall_13 : decode cX0_fall 13 = .ok (.iload_n 2, 1) := dk_28 (dk_at dksX0_fall_0 13 rfl rfl)
theorem dX0_fall_14 : decode cX0_fall 14 = .ok (.invokevirtual 189, 3) := dk_182 0 189 (dk_at dksX0_fall_0 14 rfl rfl)
theorem dX0_fall_17 : decode cX0_fall 17 = .ok (.istore_n 3, 1) := dk_62 (dk_at dksX0_fall_0 17 rfl rfl)
theorem dX0_fall_18 : decode cX0_fall 18 = .ok (.iconst 0, 1) := dk_3 (dk_at dksX0_fall_0 18 rfl rfl)
theorem dX0_fall_19 : decode cX0_fall 19 = .ok (.istore 4, 2) := dk_54 4 (dk_at dksX0_fall_0 19 rfl rfl)
theorem dX0_fall_21 : decode cX0_fall 21 = .ok (.iconst 0, 1) := dk_3 (dk_at dksX0_fall_0 21 rfl rfl)
theorem dX0_fall_22 : decode cX0_fall 22 = .ok (.istore 5, 2) := dk_54 5 (dk_at dksX0_fall_0 22 rfl rfl)
theorem dX0_fall_24 : decode cX0_fall 24 = .ok (.iload 4, 2) := dk_21 4 (dk_at dksX0_fall_1 0 rfl rfl)
theorem dX0_fall_26 : decode cX0_fall 26 = .ok (.iload_n 3, 1) := dk_29 (dk_at dksX0_fall_1 2 rfl rfl)
theorem dX0_fall_27 : decode cX0_fall 27 = .ok (.if_icmp .ge 43, 3) := dk_162 0 43 (dk_at dksX0_fall_1 3 rfl rfl)
theorem dX0_fall_30 : decode cX0_fall 30 = .ok (.aload_n 0, 1) := dk_42 (dk_at dksX0_fall_1 6 rfl rfl)
theorem dX0_fall_31 : decode cX0_fall 31 = .ok (.aload_n 0, 1) := dk_42 (dk_at dksX0_fall_1 7 rfl rfl)
theorem dX0_fall_32 : decode cX0_fall 32 = .ok (.getfield 12, 3) := dk_180 0 12 (dk_at dksX0_fall_1 8 rfl rfl)
theorem dX0_fall_35 : decode cX0_fall 35 = .ok (.iload_n 2, 1) := dk_28 (dk_at dksX0_fall_1 11 rfl rfl)
theorem dX0_fall_36 : decode cX0_fall 36 = .ok (.iload 5, 2) := dk_21 5 (dk_at dksX0_fall_1 12 rfl rfl)
theorem dX0_fall_38 : decode cX0_fall 38 = .ok (.invokevirtual 192, 3) := dk_182 0 192 (dk_at dksX0_fall_1 14 rfl rfl)
theorem dX0_fall_41 : decode cX0_fall 41 = .ok (.iload_n 2, 1) := dk_28 (dk_at dksX0_fall_1 17 rfl rfl)
theorem dX0_fall_42 : decode cX0_fall 42 = .ok (.iload 4, 2) := dk_21 4 (dk_at dksX0_fall_1 18 rfl rfl)
theorem dX0_fall_44 : decode cX0_fall 44 = .ok (.iload_n 3, 1) := dk_29 (dk_at dksX0_fall_1 20 rfl rfl)
theorem dX0_fall_45 : decode cX0_fall 45 = .ok (.invokevirtual 214, 3) := dk_182 0 214 (dk_at dksX0_fall_1 21 rfl rfl)
theorem dX0_fall_48 : decode cX0_fall 48 = .ok (.ifCond .eq 13, 3) := dk_153 0 13 (dk_at dksX0_fall_2 0 rfl rfl)
theorem dX0_fall_51 : decode cX0_fall 51 = .ok (.aload_n 0, 1) := dk_42 (dk_at dksX0_fall_2 3 rfl rfl)
theorem dX0_fall_52 : decode cX0_fall 52 = .ok (.iload_n 2, 1) := dk_28 (dk_at dksX0_fall_2 4 rfl rfl)
theorem dX0_fall_53 : decode cX0_fall 53 = .ok (.iload 5, 2) := dk_21 5 (dk_at dksX0_fall_2 5 rfl rfl)
theorem dX0_fall_55 : decode cX0_fall 55 = .ok (.invokevirtual 217, 3) := dk_182 0 217 (dk_at dksX0_fall_2 7 rfl rfl)
theorem dX0_fall_58 : decode cX0_fall 58 = .ok (.goto 6, 3) := dk_167 0 6 (dk_at dksX0_fall_2 10 rfl rfl)
theorem dX0_fall_61 : decode cX0_fall 61 = .ok (.iinc 5 1, 3) := dk_132 5 1 (dk_at dksX0_fall_2 13 rfl rfl)
theorem dX0_fall_64 : decode cX0_fall 64 = .ok (.iinc 4 1, 3) := dk_132 4 1 (dk_at dksX0_fall_2 16 rfl rfl)
theorem dX0_fall_67 : decode cX0_fall 67 = .ok (.goto (-43), 3) := dk_167 255 213 (dk_at dksX0_fall_2 19 rfl rfl)
theorem dX0_fall_70 : decode cX0_fall 70 = .ok (.aload_n 0, 1) := dk_42 (dk_at dksX0_fall_2 22 rfl rfl)
theorem dX0_fall_71 : decode cX0_fall 71 = .ok (.iload_n 2, 1) := dk_28 (dk_at dksX0_fall_2 23 rfl rfl)
theorem dX0_fall_72 : decode cX0_fall 72 = .ok (.invokevirtual 90, 3) := dk_182 0 90 (dk_at dksX0_fall_3 0 rfl rfl)
theorem dX0_fall_75 : decode cX0_fall 75 = .ok (.aload_n 0, 1) := dk_42 (dk_at dksX0_fall_3 3 rfl rfl)
theorem dX0_fall_76 : decode cX0_fall 76 = .ok (.getfield 12, 3) := dk_180 0 12 (dk_at dksX0_fall_3 4 rfl rfl)
theorem dX0_fall_79 : decode cX0_fall 79 = .ok (.getfield 93, 3) := dk_180 0 93 (dk_at dksX0_fall_3 7 rfl rfl)
theorem dX0_fall_82 : decode cX0_fall 82 = .ok (.iload_n 2, 1) := dk_28 (dk_at dksX0_fall_3 10 rfl rfl)
theorem dX0_fall_83 : decode cX0_fall 83 = .ok (.iaload, 1) := dk_46 (dk_at dksX0_fall_3 11 rfl rfl)
theorem dX0_fall_84 : decode cX0_fall 84 = .ok (.if_icmp .le 21, 3) := dk_164 0 21 (dk_at dksX0_fall_3 12 rfl rfl)
theorem dX0_fall_87 : decode cX0_fall 87 = .ok (.aload_n 0, 1) := dk_42 (dk_at dksX0_fall_3 15 rfl rfl)
theorem dX0_fall_88 : decode cX0_fall 88 = .ok (.iload_n 2, 1) := dk_28 (dk_at dksX0_fall_3 16 rfl rfl)
theorem dX0_fall_89 : decode cX0_fall 89 = .ok (.aload_n 0, 1) := dk_42 (dk_at dksX0_fall_3 17 rfl rfl)
theorem dX0_fall_90 : decode cX0_fall 90 = .ok (.getfield 12, 3) := dk_180 0 12 (dk_at dksX0_fall_3 18 rfl rfl)
theorem dX0_fall_93 : decode cX0_fall 93 = .ok (.iload_n 2, 1) := dk_28 (dk_at dksX0_fall_3 21 rfl rfl)
theorem dX0_fall_94 : decode cX0_fall 94 = .ok (.invokevirtual 189, 3) := dk_182 0 189 (dk_at dksX0_fall_4 0 rfl rfl)
theorem dX0_fall_97 : decode cX0_fall 97 = .ok (.iconst 1, 1) := dk_4 (dk_at dksX0_fall_4 3 rfl rfl)
theorem dX0_fall_98 : decode cX0_fall 98 = .ok (.isub, 1) := dk_100 (dk_at dksX0_fall_4 4 rfl rfl)
theorem dX0_fall_99 : decode cX0_fall 99 = .ok (.invokevirtual 217, 3) := dk_182 0 217 (dk_at dksX0_fall_4 5 rfl rfl)
theorem dX0_fall_102 : decode cX0_fall 102 = .ok (.goto (-32), 3) := dk_167 255 224 (dk_at dksX0_fall_4 8 rfl rfl)
theorem dX0_fall_105 : decode cX0_fall 105 = .ok (.iload_n 1, 1) := dk_27 (dk_at dksX0_fall_4 11 rfl rfl)
theorem dX0_fall_106 : decode cX0_fall 106 = .ok (.iload_n 3, 1) := dk_29 (dk_at dksX0_fall_4 12 rfl rfl)
theorem dX0_fall_107 : decode cX0_fall 107 = .ok (.aload_n 0, 1) := dk_42 (dk_at dksX0_fall_4 13 rfl rfl)
theorem dX0_fall_108 : decode cX0_fall 108 = .ok (.getfield 12, 3) := dk_180 0 12 (dk_at dksX0_fall_4 14 rfl rfl)
theorem dX0_fall_111 : decode cX0_fall 111 = .ok (.iload_n 2, 1) := dk_28 (dk_at dksX0_fall_4 17 rfl rfl)
theorem dX0_fall_112 : decode cX0_fall 112 = .ok (.invokevirtual 189, 3) := dk_182 0 189 (dk_at dksX0_fall_4 18 rfl rfl)
theorem dX0_fall_115 : decode cX0_fall 115 = .ok (.isub, 1) := dk_100 (dk_at dksX0_fall_4 21 rfl rfl)
theorem dX0_fall_116 : decode cX0_fall 116 = .ok (.iadd, 1) := dk_96 (dk_at dksX0_fall_4 22 rfl rfl)
theorem dX0_fall_117 : decode cX0_fall 117 = .ok (.istore_n 1, 1) := dk_60 (dk_at dksX0_fall_4 23 rfl rfl)
theorem dX0_fall_118 : decode cX0_fall 118 = .ok (.iinc 2 1, 3) := dk_132 2 1 (dk_at dksX0_fall_5 0 rfl rfl)
theorem dX0_fall_121 : decode cX0_fall 121 = .ok (.goto (-117), 3) := dk_167 255 139 (dk_at dksX0_fall_5 3 rfl rfl)
theorem dX0_fall_124 : decode cX0_fall 124 = .ok (.iload_n 1, 1) := dk_27 (dk_at dksX0_fall_5 6 rfl rfl)
theorem dX0_fall_125 : decode cX0_fall 125 = .ok (.ireturn, 1) := dk_172 (dk_at dksX0_fall_5 7 rfl rfl)
abbrev MX0_fall : jjM := (yX0_fall, cX0_fall, 6, (Option.some Jvm.ClassFile.FieldType.int))
theorem npX0_fall : yX0_fall.cls ≠ "java/lang/invoke/MethodHandle" ∧ yX0_fall.cls ≠ "java/lang/invoke/VarHandle" ∧ (parseMethodDescriptor yX0_fall.desc).map (fun d => d.parameters.length) = some 0 := by decide +kernel
abbrev cX0_falls : ByteArray := prog_1_method_24_code
def yX0_falls : MethodName := ⟨RX0, "falls", "(IIII)Z"⟩
def dkwX0_falls_2 : List UInt8 := [180, 0, 199, 42, 180, 0, 30, 185, 0, 154, 2, 0, 172]
abbrev dktX0_falls_2 : List UInt8 := dkwX0_falls_2 ++ []
def dkwX0_falls_1 : List UInt8 := [79, 42, 180, 0, 30, 16, 13, 29, 79, 42, 180, 0, 30, 16, 14, 21, 4, 79, 42, 182, 0, 142]
abbrev dktX0_falls_1 : List UInt8 := dkwX0_falls_1 ++ dktX0_falls_2
def dkwX0_falls_0 : List UInt8 := [42, 182, 0, 142, 180, 0, 199, 199, 0, 5, 3, 172, 42, 27, 182, 0, 151, 42, 180, 0, 30, 16, 12, 28]
abbrev dktX0_falls_0 : List UInt8 := dkwX0_falls_0 ++ dktX0_falls_1
theorem dksX0_falls_0 : cX0_falls.data.toList.drop 0 = dktX0_falls_0 := by decide +kernel
theorem dksX0_falls_1 : cX0_falls.data.toList.drop 24 = dktX0_falls_1 := dk_seg dksX0_falls_0 24 rfl rfl
theorem dksX0_falls_2 : cX0_falls.data.toList.drop 46 = dktX0_falls_2 := dk_seg dksX0_falls_1 22 rfl rfl
theorem dX0_falls_0 : decode cX0_falls 0 = .ok (.aload_n 0, 1) := dk_42 (dk_at dksX0_falls_0 0 rfl rfl)
theorem dX0_falls_1 : decode cX0_falls 1 = .ok (.invokevirtual 142, 3) := dk_182 0 142 (dk_at dksX0_falls_0 1 rfl rfl)
theorem dX0_falls_4 : decode cX0_falls 4 = .ok (.getfield 199, 3) := dk_180 0 199 (dk_at dksX0_falls_0 4 rfl rfl)
theorem dX0_falls_7 : decode cX0_falls 7 = .ok (.ifnonnull 5, 3) := dk_199 0 5 (dk_at dksX0_falls_0 7 rfl rfl)
theorem dX0_falls_10 : decode cX0_falls 10 = .ok (.iconst 0, 1) := dk_3 (dk_at dksX0_falls_0 10 rfl rfl)
theorem dX0_falls_11 : decode cX0_falls 11 = .ok (.ireturn, 1) := dk_172 (dk_at dksX0_falls_0 11 rfl rfl)
theorem dX0_falls_12 : decode cX0_falls 12 = .ok (.aload_n 0, 1) := dk_42 (dk_at dksX0_falls_0 12 rfl rfl)
theorem dX0_falls_13 : decode cX0_falls 13 = .ok (.iload_n 1, 1) := dk_27 (dk_at dksX0_falls_0 13 rfl rfl)
theorem dX0_falls_14 : decode cX0_falls 14 = .ok (.invokevirtual 151, 3) := dk_182 0 151 (dk_at dksX0_falls_0 14 rfl rfl)
theorem dX0_falls_17 : decode cX0_falls 17 = .ok (.aload_n 0, 1) := dk_42 (dk_at dksX0_falls_0 17 rfl rfl)
theorem dX0_falls_18 : decode cX0_falls 18 = .ok (.getfield 30, 3) := dk_180 0 30 (dk_at dksX0_falls_0 18 rfl rfl)
theorem dX0_falls_21 : decode cX0_falls 21 = .ok (.bipush 12, 2) := dk_16 12 (dk_at dksX0_falls_0 21 rfl rfl)
theorem dX0_falls_23 : decode cX0_falls 23 = .ok (.iload_n 2, 1) := dk_28 (dk_at dksX0_falls_0 23 rfl rfl)
theorem dX0_falls_24 : decode cX0_falls 24 = .ok (.iastore, 1) := dk_79 (dk_at dksX0_falls_1 0 rfl rfl)
theorem dX0_falls_25 : decode cX0_falls 25 = .ok (.aload_n 0, 1) := dk_42 (dk_at dksX0_falls_1 1 rfl rfl)
theorem dX0_falls_26 : decode cX0_falls 26 = .ok (.getfield 30, 3) := dk_180 0 30 (dk_at dksX0_falls_1 2 rfl rfl)
theorem dX0_falls_29 : decode cX0_falls 29 = .ok (.bipush 13, 2) := dk_16 13 (dk_at dksX0_falls_1 5 rfl rfl)
theorem dX0_falls_31 : decode cX0_falls 31 = .ok (.iload_n 3, 1) := dk_29 (dk_at dksX0_falls_1 7 rfl rfl)
theorem dX0_falls_32 : decode cX0_falls 32 = .ok (.iastore, 1) := dk_79 (dk_at dksX0_falls_1 8 rfl rfl)
theorem dX0_falls_33 : decode cX0_falls 33 = .ok (.aload_n 0, 1) := dk_42 (dk_at dksX0_falls_1 9 rfl rfl)
theorem dX0_falls_34 : decode cX0_falls 34 = .ok (.getfield 30, 3) := dk_180 0 30 (dk_at dksX0_falls_1 10 rfl rfl)
theorem dX0_falls_37 : decode cX0_falls 37 = .ok (.bipush 14, 2) := dk_16 14 (dk_at dksX0_falls_1 13 rfl rfl)
theorem dX0_falls_39 : decode cX0_falls 39 = .ok (.iload 4, 2) := dk_21 4 (dk_at dksX0_falls_1 15 rfl rfl)
theorem dX0_falls_41 : decode cX0_falls 41 = .ok (.iastore, 1) := dk_79 (dk_at dksX0_falls_1 17 rfl rfl)
theorem dX0_falls_42 : decode cX0_falls 42 = .ok (.aload_n 0, 1) := dk_42 (dk_at dksX0_falls_1 18 rfl rfl)
theorem dX0_falls_43 : decode cX0_falls 43 = .ok (.invokevirtual 142, 3) := dk_182 0 142 (dk_at dksX0_falls_1 19 rfl rfl)
theorem dX0_falls_46 : decode cX0_falls 46 = .ok (.getfield 199, 3) := dk_180 0 199 (dk_at dksX0_falls_2 0 rfl rfl)
theorem dX0_falls_49 : decode cX0_falls 49 = .ok (.aload_n 0, 1) := dk_42 (dk_at dksX0_falls_2 3 rfl rfl)
theorem dX0_falls_50 : decode cX0_falls 50 = .ok (.getfield 30, 3) := dk_180 0 30 (dk_at dksX0_falls_2 4 rfl rfl)
theorem dX0_falls_53 : decode cX0_falls 53 = .ok (.invokeinterface 154 2, 5) := by decide +kernel
theorem dX0_falls_58 : decode cX0_falls 58 = .ok (.ireturn, 1) := dk_172 (dk_at dksX0_falls_2 12 rfl rfl)
abbrev MX0_falls : jjM := (yX0_falls, cX0_falls, 5, (Option.some Jvm.ClassFile.FieldType.boolean))
theorem npX0_falls : yX0_falls.cls ≠ "java/lang/invoke/MethodHandle" ∧ yX0_falls.cls ≠ "java/lang/invoke/VarHandle" ∧ (parseMethodDescriptor yX0_falls.desc).map (fun d => d.parameters.length) = some 4 := by decide +kernel
abbrev cX0_drops : ByteArray := prog_1_method_29_code
def yX0_drops : MethodName := ⟨RX0, "drops", "(II)V"⟩
def dkwX0_drops_1 : List UInt8 := [180, 0, 12, 27, 28, 182, 0, 210, 177]
abbrev dktX0_drops_1 : List UInt8 := dkwX0_drops_1 ++ []
def dkwX0_drops_0 : List UInt8 := [42, 180, 0, 12, 180, 0, 78, 16, 33, 42, 180, 0, 12, 27, 28, 182, 0, 192, 96, 7, 79, 42]
abbrev dktX0_drops_0 : List UInt8 := dkwX0_drops_0 ++ dktX0_drops_1
theorem dksX0_drops_0 : cX0_drops.data.toList.drop 0 = dktX0_drops_0 := by decide +kernel
theorem dksX0_drops_1 : cX0_drops.data.toList.drop 22 = dktX0_drops_1 := dk_seg dksX0_drops_0 22 rfl rfl
theorem dX0_drops_0 : decode cX0_drops 0 = .ok (.aload_n 0, 1) := dk_42 (dk_at dksX0_drops_0 0 rfl rfl)
theorem dX0_drops_1 : decode cX0_drops 1 = .ok (.getfield 12, 3) := dk_180 0 12 (dk_at dksX0_drops_0 1 rfl rfl)
theorem dX0_drops_4 : decode cX0_drops 4 = .ok (.getfield 78, 3) := dk_180 0 78 (dk_at dksX0_drops_0 4 rfl rfl)
theorem dX0_drops_7 : decode cX0_drops 7 = .ok (.bipush 33, 2) := dk_16 33 (dk_at dksX0_drops_0 7 rfl rfl)
theorem dX0_drops_9 : decode cX0_drops 9 = .ok (.aload_n 0, 1) := dk_42 (dk_at dksX0_drops_0 9 rfl rfl)
theorem dX0_drops_10 : decode cX0_drops 10 = .ok (.getfield 12, 3) := dk_180 0 12 (dk_at dksX0_drops_0 10 rfl rfl)
theorem dX0_drops_13 : decode cX0_drops 13 = .ok (.iload_n 1, 1) := dk_27 (dk_at dksX0_drops_0 13 rfl rfl)
theorem dX0_drops_14 : decode cX0_drops 14 = .ok (.iload_n 2, 1) := dk_28 (dk_at dksX0_drops_0 14 rfl rfl)
theorem dX0_drops_15 : decode cX0_drops 15 = .ok (.invokevirtual 192, 3) := dk_182 0 192 (dk_at dksX0_drops_0 15 rfl rfl)
theorem dX0_drops_18 : decode cX0_drops 18 = .ok (.iadd, 1) := dk_96 (dk_at dksX0_drops_0 18 rfl rfl)
theorem dX0_drops_19 : decode cX0_drops 19 = .ok (.iconst 4, 1) := dk_7 (dk_at dksX0_drops_0 19 rfl rfl)
theorem dX0_drops_20 : decode cX0_drops 20 = .ok (.iastore, 1) := dk_79 (dk_at dksX0_drops_0 20 rfl rfl)
theorem dX0_drops_21 : decode cX0_drops 21 = .ok (.aload_n 0, 1) := dk_42 (dk_at dksX0_drops_0 21 rfl rfl)
theorem dX0_drops_22 : decode cX0_drops 22 = .ok (.getfield 12, 3) := dk_180 0 12 (dk_at dksX0_drops_1 0 rfl rfl)
theorem dX0_drops_25 : decode cX0_drops 25 = .ok (.iload_n 1, 1) := dk_27 (dk_at dksX0_drops_1 3 rfl rfl)
theorem dX0_drops_26 : decode cX0_drops 26 = .ok (.iload_n 2, 1) := dk_28 (dk_at dksX0_drops_1 4 rfl rfl)
theorem dX0_drops_27 : decode cX0_drops 27 = .ok (.invokevirtual 210, 3) := dk_182 0 210 (dk_at dksX0_drops_1 5 rfl rfl)
theorem dX0_drops_30 : decode cX0_drops 30 = .ok (.return_, 1) := dk_177 (dk_at dksX0_drops_1 8 rfl rfl)
abbrev MX0_drops : jjM := (yX0_drops, cX0_drops, 3, (Option.none : Option Jvm.ClassFile.FieldType))
theorem npX0_drops : yX0_drops.cls ≠ "java/lang/invoke/MethodHandle" ∧ yX0_drops.cls ≠ "java/lang/invoke/VarHandle" ∧ (parseMethodDescriptor yX0_drops.desc).map (fun d => d.parameters.length) = some 2 := by decide +kernel
abbrev cX0_nudge : ByteArray := prog_1_method_34_code
def yX0_nudge : MethodName := ⟨RX0, "nudge", "(II)I"⟩
def dkwX0_nudge_4 : List UInt8 := [180, 0, 12, 180, 0, 78, 29, 46, 172]
abbrev dktX0_nudge_4 : List UInt8 := dkwX0_nudge_4 ++ []
def dkwX0_nudge_3 : List UInt8 := [180, 0, 78, 29, 4, 96, 46, 79, 42, 180, 0, 12, 180, 0, 78, 29, 4, 96, 21, 4, 79, 42]
abbrev dktX0_nudge_3 : List UInt8 := dkwX0_nudge_3 ++ dktX0_nudge_4
def dkwX0_nudge_2 : List UInt8 := [180, 0, 12, 180, 0, 78, 29, 46, 54, 4, 42, 180, 0, 12, 180, 0, 78, 29, 42, 180, 0, 12]
abbrev dktX0_nudge_2 : List UInt8 := dkwX0_nudge_2 ++ dktX0_nudge_3
def dkwX0_nudge_1 : List UInt8 := [154, 0, 5, 2, 172, 42, 180, 0, 12, 182, 0, 238, 16, 11, 27, 104, 4, 96, 28, 96, 62, 42]
abbrev dktX0_nudge_1 : List UInt8 := dkwX0_nudge_1 ++ dktX0_nudge_2
def dkwX0_nudge_0 : List UInt8 := [27, 184, 0, 87, 153, 0, 21, 28, 3, 42, 180, 0, 12, 27, 182, 0, 189, 5, 100, 184, 0, 74]
abbrev dktX0_nudge_0 : List UInt8 := dkwX0_nudge_0 ++ dktX0_nudge_1
theorem dksX0_nudge_0 : cX0_nudge.data.toList.drop 0 = dktX0_nudge_0 := by decide +kernel
theorem dksX0_nudge_1 : cX0_nudge.data.toList.drop 22 = dktX0_nudge_1 := dk_seg dksX0_nudge_0 22 rfl rfl
theorem dksX0_nudge_2 : cX0_nudge.data.toList.drop 44 = dktX0_nudge_2 := dk_seg dksX0_nudge_1 22 rfl rfl
theorem dksX0_nudge_3 : cX0_nudge.data.toList.drop 66 = dktX0_nudge_3 := dk_seg dksX0_nudge_2 22 rfl rfl
theorem dksX0_nudge_4 : cX0_nudge.data.toList.drop 88 = dktX0_nudge_4 := dk_seg dksX0_nudge_3 22 rfl rfl
theorem dX0_nudge_0 : decode cX0_nudge 0 = .ok (.iload_n 1, 1) := dk_27 (dk_at dksX0_nudge_0 0 rfl rfl)
theorem dX0_nudge_1 : decode cX0_nudge 1 = .ok (.invokestatic 87, 3) := dk_184 0 87 (dk_at dksX0_nudge_0 1 rfl rfl)
theorem dX0_nudge_4 : decode cX0_nudge 4 = .ok (.ifCond .eq 21, 3) := dk_153 0 21 (dk_at dksX0_nudge_0 4 rfl rfl)
theorem dX0_nudge_7 : decode cX0_nudge 7 = .ok (.iload_n 2, 1) := dk_28 (dk_at dksX0_nudge_0 7 rfl rfl)
theorem dX0_nudge_8 : decode cX0_nudge 8 = .ok (.iconst 0, 1) := dk_3 (dk_at dksX0_nudge_0 8 rfl rfl)
theorem dX0_nudge_9 : decode cX0_nudge 9 = .ok (.aload_n 0, 1) := dk_42 (dk_at dksX0_nudge_0 9 rfl rfl)
theorem dX0_nudge_10 : decode cX0_nudge 10 = .ok (.getfield 12, 3) := dk_180 0 12 (dk_at dksX0_nudge_0 10 rfl rfl)
theorem dX0_nudge_13 : decode cX0_nudge 13 = .ok (.iload_n 1, 1) := dk_27 (dk_at dksX0_nudge_0 13 rfl rfl)
theorem dX0_nudge_14 : decode cX0_nudge 14 = .ok (.invokevirtual 189, 3) := dk_182 0 189 (dk_at dksX0_nudge_0 14 rfl rfl)
theorem dX0_nudge_17 : decode cX0_nudge 17 = .ok (.iconst 2, 1) := dk_5 (dk_at dksX0_nudge_0 17 rfl rfl)
theorem dX0_nudge_18 : decode cX0_nudge 18 = .ok (.isub, 1) := dk_100 (dk_at dksX0_nudge_0 18 rfl rfl)
theorem dX0_nudge_19 : decode cX0_nudge 19 = .ok (.invokestatic 74, 3) := dk_184 0 74 (dk_at dksX0_nudge_0 19 rfl rfl)
theorem dX0_nudge_22 : decode cX0_nudge 22 = .ok (.ifCond .ne 5, 3) := dk_154 0 5 (dk_at dksX0_nudge_1 0 rfl rfl)
theorem dX0_nudge_25 : decode cX0_nudge 25 = .ok (.iconst (-1), 1) := dk_2 (dk_at dksX0_nudge_1 3 rfl rfl)
theorem dX0_nudge_26 : decode cX0_nudge 26 = .ok (.ireturn, 1) := dk_172 (dk_at dksX0_nudge_1 4 rfl rfl)
theorem dX0_nudge_27 : decode cX0_nudge 27 = .ok (.aload_n 0, 1) := dk_42 (dk_at dksX0_nudge_1 5 rfl rfl)
theorem dX0_nudge_28 : decode cX0_nudge 28 = .ok (.getfield 12, 3) := dk_180 0 12 (dk_at dksX0_nudge_1 6 rfl rfl)
theorem dX0_nudge_31 : decode cX0_nudge 31 = .ok (.invokevirtual 238, 3) := dk_182 0 238 (dk_at dksX0_nudge_1 9 rfl rfl)
theorem dX0_nudge_34 : decode cX0_nudge 34 = .ok (.bipush 11, 2) := dk_16 11 (dk_at dksX0_nudge_1 12 rfl rfl)
theorem dX0_nudge_36 : decode cX0_nudge 36 = .ok (.iload_n 1, 1) := dk_27 (dk_at dksX0_nudge_1 14 rfl rfl)
theorem dX0_nudge_37 : decode cX0_nudge 37 = .ok (.imul, 1) := dk_104 (dk_at dksX0_nudge_1 15 rfl rfl)
theorem dX0_nudge_38 : decode cX0_nudge 38 = .ok (.iconst 1, 1) := dk_4 (dk_at dksX0_nudge_1 16 rfl rfl)
theorem dX0_nudge_39 : decode cX0_nudge 39 = .ok (.iadd, 1) := dk_96 (dk_at dksX0_nudge_1 17 rfl rfl)
theorem dX0_nudge_40 : decode cX0_nudge 40 = .ok (.iload_n 2, 1) := dk_28 (dk_at dksX0_nudge_1 18 rfl rfl)
theorem dX0_nudge_41 : decode cX0_nudge 41 = .ok (.iadd, 1) := dk_96 (dk_at dksX0_nudge_1 19 rfl rfl)
theorem dX0_nudge_42 : decode cX0_nudge 42 = .ok (.istore_n 3, 1) := dk_62 (dk_at dksX0_nudge_1 20 rfl rfl)
theorem dX0_nudge_43 : decode cX0_nudge 43 = .ok (.aload_n 0, 1) := dk_42 (dk_at dksX0_nudge_1 21 rfl rfl)
theorem dX0_nudge_44 : decode cX0_nudge 44 = .ok (.getfield 12, 3) := dk_180 0 12 (dk_at dksX0_nudge_2 0 rfl rfl)
theorem dX0_nudge_47 : decode cX0_nudge 47 = .ok (.getfield 78, 3) := dk_180 0 78 (dk_at dksX0_nudge_2 3 rfl rfl)
theorem dX0_nudge_50 : decode cX0_nudge 50 = .ok (.iload_n 3, 1) := dk_29 (dk_at dksX0_nudge_2 6 rfl rfl)
theorem dX0_nudge_51 : decode cX0_nudge 51 = .ok (.iaload, 1) := dk_46 (dk_at dksX0_nudge_2 7 rfl rfl)
theorem dX0_nudge_52 : decode cX0_nudge 52 = .ok (.istore 4, 2) := dk_54 4 (dk_at dksX0_nudge_2 8 rfl rfl)
theorem dX0_nudge_54 : decode cX0_nudge 54 = .ok (.aload_n 0, 1) := dk_42 (dk_at dksX0_nudge_2 10 rfl rfl)
theorem dX0_nudge_55 : decode cX0_nudge 55 = .ok (.getfield 12, 3) := dk_180 0 12 (dk_at dksX0_nudge_2 11 rfl rfl)
theorem dX0_nudge_58 : decode cX0_nudge 58 = .ok (.getfield 78, 3) := dk_180 0 78 (dk_at dksX0_nudge_2 14 rfl rfl)
theorem dX0_nudge_61 : decode cX0_nudge 61 = .ok (.iload_n 3, 1) := dk_29 (dk_at dksX0_nudge_2 17 rfl rfl)
theorem dX0_nudge_62 : decode cX0_nudge 62 = .ok (.aload_n 0, 1) := dk_42 (dk_at dksX0_nudge_2 18 rfl rfl)
theorem dX0_nudge_63 : decode cX0_nudge 63 = .ok (.getfield 12, 3) := dk_180 0 12 (dk_at dksX0_nudge_2 19 rfl rfl)
theorem dX0_nudge_66 : decode cX0_nudge 66 = .ok (.getfield 78, 3) := dk_180 0 78 (dk_at dksX0_nudge_3 0 rfl rfl)
theorem dX0_nudge_69 : decode cX0_nudge 69 = .ok (.iload_n 3, 1) := dk_29 (dk_at dksX0_nudge_3 3 rfl rfl)
theorem dX0_nudge_70 : decode cX0_nudge 70 = .ok (.iconst 1, 1) := dk_4 (dk_at dksX0_nudge_3 4 rfl rfl)
theorem dX0_nudge_71 : decode cX0_nudge 71 = .ok (.iadd, 1) := dk_96 (dk_at dksX0_nudge_3 5 rfl rfl)
theorem dX0_nudge_72 : decode cX0_nudge 72 = .ok (.iaload, 1) := dk_46 (dk_at dksX0_nudge_3 6 rfl rfl)
theorem dX0_nudge_73 : decode cX0_nudge 73 = .ok (.iastore, 1) := dk_79 (dk_at dksX0_nudge_3 7 rfl rfl)
theorem dX0_nudge_74 : decode cX0_nudge 74 = .ok (.aload_n 0, 1) := dk_42 (dk_at dksX0_nudge_3 8 rfl rfl)
theorem dX0_nudge_75 : decode cX0_nudge 75 = .ok (.getfield 12, 3) := dk_180 0 12 (dk_at dksX0_nudge_3 9 rfl rfl)
theorem dX0_nudge_78 : decode cX0_nudge 78 = .ok (.getfield 78, 3) := dk_180 0 78 (dk_at dksX0_nudge_3 12 rfl rfl)
theorem dX0_nudge_81 : decode cX0_nudge 81 = .ok (.iload_n 3, 1) := dk_29 (dk_at dksX0_nudge_3 15 rfl rfl)
theorem dX0_nudge_82 : decode cX0_nudge 82 = .ok (.iconst 1, 1) := dk_4 (dk_at dksX0_nudge_3 16 rfl rfl)
theorem dX0_nudge_83 : decode cX0_nudge 83 = .ok (.iadd, 1) := dk_96 (dk_at dksX0_nudge_3 17 rfl rfl)
theorem dX0_nudge_84 : decode cX0_nudge 84 = .ok (.iload 4, 2) := dk_21 4 (dk_at dksX0_nudge_3 18 rfl rfl)
theorem dX0_nudge_86 : decode cX0_nudge 86 = .ok (.iastore, 1) := dk_79 (dk_at dksX0_nudge_3 20 rfl rfl)
theorem dX0_nudge_87 : decode cX0_nudge 87 = .ok (.aload_n 0, 1) := dk_42 (dk_at dksX0_nudge_3 21 rfl rfl)
theorem dX0_nudge_88 : decode cX0_nudge 88 = .ok (.getfield 12, 3) := dk_180 0 12 (dk_at dksX0_nudge_4 0 rfl rfl)
theorem dX0_nudge_91 : decode cX0_nudge 91 = .ok (.getfield 78, 3) := dk_180 0 78 (dk_at dksX0_nudge_4 3 rfl rfl)
theorem dX0_nudge_94 : decode cX0_nudge 94 = .ok (.iload_n 3, 1) := dk_29 (dk_at dksX0_nudge_4 6 rfl rfl)
theorem dX0_nudge_95 : decode cX0_nudge 95 = .ok (.iaload, 1) := dk_46 (dk_at dksX0_nudge_4 7 rfl rfl)
theorem dX0_nudge_96 : decode cX0_nudge 96 = .ok (.ireturn, 1) := dk_172 (dk_at dksX0_nudge_4 8 rfl rfl)
abbrev MX0_nudge : jjM := (yX0_nudge, cX0_nudge, 5, (Option.some Jvm.ClassFile.FieldType.int))
theorem npX0_nudge : yX0_nudge.cls ≠ "java/lang/invoke/MethodHandle" ∧ yX0_nudge.cls ≠ "java/lang/invoke/VarHandle" ∧ (parseMethodDescriptor yX0_nudge.desc).map (fun d => d.parameters.length) = some 2 := by decide +kernel
abbrev cX0_take : ByteArray := prog_1_method_35_code
def yX0_take : MethodName := ⟨RX0, "take", "(I)I"⟩
def dkwX0_take_2 : List UInt8 := [182, 0, 244, 182, 0, 210, 42, 180, 0, 12, 180, 0, 78, 16, 33, 27, 96, 6, 79, 28, 172]
abbrev dktX0_take_2 : List UInt8 := dkwX0_take_2 ++ []
def dkwX0_take_1 : List UInt8 := [182, 0, 238, 42, 27, 182, 0, 83, 61, 28, 6, 162, 0, 19, 42, 180, 0, 12, 28, 42, 180, 0, 12, 27]
abbrev dktX0_take_1 : List UInt8 := dkwX0_take_1 ++ dktX0_take_2
def dkwX0_take_0 : List UInt8 := [42, 27, 182, 0, 79, 153, 0, 12, 42, 27, 182, 0, 83, 6, 160, 0, 5, 2, 172, 42, 180, 0, 12]
abbrev dktX0_take_0 : List UInt8 := dkwX0_take_0 ++ dktX0_take_1
theorem dksX0_take_0 : cX0_take.data.toList.drop 0 = dktX0_take_0 := by decide +kernel
theorem dksX0_take_1 : cX0_take.data.toList.drop 23 = dktX0_take_1 := dk_seg dksX0_take_0 23 rfl rfl
theorem dksX0_take_2 : cX0_take.data.toList.drop 47 = dktX0_take_2 := dk_seg dksX0_take_1 24 rfl rfl
theorem dX0_take_0 : decode cX0_take 0 = .ok (.aload_n 0, 1) := dk_42 (dk_at dksX0_take_0 0 rfl rfl)
theorem dX0_take_1 : decode cX0_take 1 = .ok (.iload_n 1, 1) := dk_27 (dk_at dksX0_take_0 1 rfl rfl)
theorem dX0_take_2 : decode cX0_take 2 = .ok (.invokevirtual 79, 3) := dk_182 0 79 (dk_at dksX0_take_0 2 rfl rfl)
theorem dX0_take_5 : decode cX0_take 5 = .ok (.ifCond .eq 12, 3) := dk_153 0 12 (dk_at dksX0_take_0 5 rfl rfl)
theorem dX0_take_8 : decode cX0_take 8 = .ok (.aload_n 0, 1) := dk_42 (dk_at dksX0_take_0 8 rfl rfl)
theorem dX0_take_9 : decode cX0_take 9 = .ok (.iload_n 1, 1) := dk_27 (dk_at dksX0_take_0 9 rfl rfl)
theorem dX0_take_10 : decode cX0_take 10 = .ok (.invokevirtual 83, 3) := dk_182 0 83 (dk_at dksX0_take_0 10 rfl rfl)
theorem dX0_take_13 : decode cX0_take 13 = .ok (.iconst 3, 1) := dk_6 (dk_at dksX0_take_0 13 rfl rfl)
theorem dX0_take_14 : decode cX0_take 14 = .ok (.if_icmp .ne 5, 3) := dk_160 0 5 (dk_at dksX0_take_0 14 rfl rfl)
theorem dX0_take_17 : decode cX0_take 17 = .ok (.iconst (-1), 1) := dk_2 (dk_at dksX0_take_0 17 rfl rfl)
theorem dX0_take_18 : decode cX0_take 18 = .ok (.ireturn, 1) := dk_172 (dk_at dksX0_take_0 18 rfl rfl)
theorem dX0_take_19 : decode cX0_take 19 = .ok (.aload_n 0, 1) := dk_42 (dk_at dksX0_take_0 19 rfl rfl)
theorem dX0_take_20 : decode cX0_take 20 = .ok (.getfield 12, 3) := dk_180 0 12 (dk_at dksX0_take_0 20 rfl rfl)
theorem dX0_take_23 : decode cX0_take 23 = .ok (.invokevirtual 238, 3) := dk_182 0 238 (dk_at dksX0_take_1 0 rfl rfl)
theorem dX0_take_26 : decode cX0_take 26 = .ok (.aload_n 0, 1) := dk_42 (dk_at dksX0_take_1 3 rfl rfl)
theorem dX0_take_27 : decode cX0_take 27 = .ok (.iload_n 1, 1) := dk_27 (dk_at dksX0_take_1 4 rfl rfl)
theorem dX0_take_28 : decode cX0_take 28 = .ok (.invokevirtual 83, 3) := dk_182 0 83 (dk_at dksX0_take_1 5 rfl rfl)
theorem dX0_take_31 : decode cX0_take 31 = .ok (.istore_n 2, 1) := dk_61 (dk_at dksX0_take_1 8 rfl rfl)
theorem dX0_take_32 : decode cX0_take 32 = .ok (.iload_n 2, 1) := dk_28 (dk_at dksX0_take_1 9 rfl rfl)
theorem dX0_take_33 : decode cX0_take 33 = .ok (.iconst 3, 1) := dk_6 (dk_at dksX0_take_1 10 rfl rfl)
theorem dX0_take_34 : decode cX0_take 34 = .ok (.if_icmp .ge 19, 3) := dk_162 0 19 (dk_at dksX0_take_1 11 rfl rfl)
theorem dX0_take_37 : decode cX0_take 37 = .ok (.aload_n 0, 1) := dk_42 (dk_at dksX0_take_1 14 rfl rfl)
theorem dX0_take_38 : decode cX0_take 38 = .ok (.getfield 12, 3) := dk_180 0 12 (dk_at dksX0_take_1 15 rfl rfl)
theorem dX0_take_41 : decode cX0_take 41 = .ok (.iload_n 2, 1) := dk_28 (dk_at dksX0_take_1 18 rfl rfl)
theorem dX0_take_42 : decode cX0_take 42 = .ok (.aload_n 0, 1) := dk_42 (dk_at dksX0_take_1 19 rfl rfl)
theorem dX0_take_43 : decode cX0_take 43 = .ok (.getfield 12, 3) := dk_180 0 12 (dk_at dksX0_take_1 20 rfl rfl)
theorem dX0_take_46 : decode cX0_take 46 = .ok (.iload_n 1, 1) := dk_27 (dk_at dksX0_take_1 23 rfl rfl)
theorem dX0_take_47 : decode cX0_take 47 = .ok (.invokevirtual 244, 3) := dk_182 0 244 (dk_at dksX0_take_2 0 rfl rfl)
theorem dX0_take_50 : decode cX0_take 50 = .ok (.invokevirtual 210, 3) := dk_182 0 210 (dk_at dksX0_take_2 3 rfl rfl)
theorem dX0_take_53 : decode cX0_take 53 = .ok (.aload_n 0, 1) := dk_42 (dk_at dksX0_take_2 6 rfl rfl)
theorem dX0_take_54 : decode cX0_take 54 = .ok (.getfield 12, 3) := dk_180 0 12 (dk_at dksX0_take_2 7 rfl rfl)
theorem dX0_take_57 : decode cX0_take 57 = .ok (.getfield 78, 3) := dk_180 0 78 (dk_at dksX0_take_2 10 rfl rfl)
theorem dX0_take_60 : decode cX0_take 60 = .ok (.bipush 33, 2) := dk_16 33 (dk_at dksX0_take_2 13 rfl rfl)
theorem dX0_take_62 : decode cX0_take 62 = .ok (.iload_n 1, 1) := dk_27 (dk_at dksX0_take_2 15 rfl rfl)
theorem dX0_take_63 : decode cX0_take 63 = .ok (.iadd, 1) := dk_96 (dk_at dksX0_take_2 16 rfl rfl)
theorem dX0_take_64 : decode cX0_take 64 = .ok (.iconst 3, 1) := dk_6 (dk_at dksX0_take_2 17 rfl rfl)
theorem dX0_take_65 : decode cX0_take 65 = .ok (.iastore, 1) := dk_79 (dk_at dksX0_take_2 18 rfl rfl)
theorem dX0_take_66 : decode cX0_take 66 = .ok (.iload_n 2, 1) := dk_28 (dk_at dksX0_take_2 19 rfl rfl)
theorem dX0_take_67 : decode cX0_take 67 = .ok (.ireturn, 1) := dk_172 (dk_at dksX0_take_2 20 rfl rfl)
abbrev MX0_take : jjM := (yX0_take, cX0_take, 3, (Option.some Jvm.ClassFile.FieldType.int))
theorem npX0_take : yX0_take.cls ≠ "java/lang/invoke/MethodHandle" ∧ yX0_take.cls ≠ "java/lang/invoke/VarHandle" ∧ (parseMethodDescriptor yX0_take.desc).map (fun d => d.parameters.length) = some 1 := by decide +kernel
abbrev cX0_whereIs : ByteArray := prog_1_method_5_code
def yX0_whereIs : MethodName := ⟨RX0, "whereIs", "(I)I"⟩
def dkwX0_whereIs_0 : List UInt8 := [42, 180, 0, 12, 180, 0, 78, 16, 33, 27, 96, 46, 172]
abbrev dktX0_whereIs_0 : List UInt8 := dkwX0_whereIs_0 ++ []
theorem dksX0_whereIs_0 : cX0_whereIs.data.toList.drop 0 = dktX0_whereIs_0 := by decide +kernel
theorem dX0_whereIs_0 : decode cX0_whereIs 0 = .ok (.aload_n 0, 1) := dk_42 (dk_at dksX0_whereIs_0 0 rfl rfl)
theorem dX0_whereIs_1 : decode cX0_whereIs 1 = .ok (.getfield 12, 3) := dk_180 0 12 (dk_at dksX0_whereIs_0 1 rfl rfl)
theorem dX0_whereIs_4 : decode cX0_whereIs 4 = .ok (.getfield 78, 3) := dk_180 0 78 (dk_at dksX0_whereIs_0 4 rfl rfl)
theorem dX0_whereIs_7 : decode cX0_whereIs 7 = .ok (.bipush 33, 2) := dk_16 33 (dk_at dksX0_whereIs_0 7 rfl rfl)
theorem dX0_whereIs_9 : decode cX0_whereIs 9 = .ok (.iload_n 1, 1) := dk_27 (dk_at dksX0_whereIs_0 9 rfl rfl)
theorem dX0_whereIs_10 : decode cX0_whereIs 10 = .ok (.iadd, 1) := dk_96 (dk_at dksX0_whereIs_0 10 rfl rfl)
theorem dX0_whereIs_11 : decode cX0_whereIs 11 = .ok (.iaload, 1) := dk_46 (dk_at dksX0_whereIs_0 11 rfl rfl)
theorem dX0_whereIs_12 : decode cX0_whereIs 12 = .ok (.ireturn, 1) := dk_172 (dk_at dksX0_whereIs_0 12 rfl rfl)
abbrev MX0_whereIs : jjM := (yX0_whereIs, cX0_whereIs, 2, (Option.some Jvm.ClassFile.FieldType.int))
theorem npX0_whereIs : yX0_whereIs.cls ≠ "java/lang/invoke/MethodHandle" ∧ yX0_whereIs.cls ≠ "java/lang/invoke/VarHandle" ∧ (parseMethodDescriptor yX0_whereIs.desc).map (fun d => d.parameters.length) = some 1 := by decide +kernel
abbrev cX0_put_2 : ByteArray := prog_1_method_36_code
def yX0_put_2 : MethodName := ⟨RX0, "put", "(III)I"⟩
def dkwX0_put_2_3 : List UInt8 := [182, 0, 238, 42, 180, 0, 12, 28, 29, 27, 182, 0, 247, 42, 180, 0, 12, 28, 182, 0, 189, 172]
abbrev dktX0_put_2_3 : List UInt8 := dkwX0_put_2_3 ++ []
def dkwX0_put_2_2 : List UInt8 := [182, 0, 196, 96, 42, 180, 0, 12, 180, 0, 93, 28, 46, 164, 0, 5, 2, 172, 42, 180, 0, 12]
abbrev dktX0_put_2_2 : List UInt8 := dkwX0_put_2_2 ++ dktX0_put_2_3
def dkwX0_put_2_1 : List UInt8 := [29, 3, 42, 180, 0, 12, 28, 182, 0, 189, 184, 0, 74, 153, 0, 26, 42, 28, 182, 0, 90, 42, 27]
abbrev dktX0_put_2_1 : List UInt8 := dkwX0_put_2_1 ++ dktX0_put_2_2
def dkwX0_put_2_0 : List UInt8 := [42, 27, 182, 0, 79, 153, 0, 58, 42, 27, 182, 0, 83, 6, 161, 0, 49, 28, 184, 0, 87, 153, 0, 42]
abbrev dktX0_put_2_0 : List UInt8 := dkwX0_put_2_0 ++ dktX0_put_2_1
theorem dksX0_put_2_0 : cX0_put_2.data.toList.drop 0 = dktX0_put_2_0 := by decide +kernel
theorem dksX0_put_2_1 : cX0_put_2.data.toList.drop 24 = dktX0_put_2_1 := dk_seg dksX0_put_2_0 24 rfl rfl
theorem dksX0_put_2_2 : cX0_put_2.data.toList.drop 47 = dktX0_put_2_2 := dk_seg dksX0_put_2_1 23 rfl rfl
theorem dksX0_put_2_3 : cX0_put_2.data.toList.drop 69 = dktX0_put_2_3 := dk_seg dksX0_put_2_2 22 rfl rfl
theorem dX0_put_2_0 : decode cX0_put_2 0 = .ok (.aload_n 0, 1) := dk_42 (dk_at dksX0_put_2_0 0 rfl rfl)
theorem dX0_put_2_1 : decode cX0_put_2 1 = .ok (.iload_n 1, 1) := dk_27 (dk_at dksX0_put_2_0 1 rfl rfl)
theorem dX0_put_2_2 : decode cX0_put_2 2 = .ok (.invokevirtual 79, 3) := dk_182 0 79 (dk_at dksX0_put_2_0 2 rfl rfl)
theorem dX0_put_2_5 : decode cX0_put_2 5 = .ok (.ifCond .eq 58, 3) := dk_153 0 58 (dk_at dksX0_put_2_0 5 rfl rfl)
theorem dX0_put_2_8 : decode cX0_put_2 8 = .ok (.aload_n 0, 1) := dk_42 (dk_at dksX0_put_2_0 8 rfl rfl)
theorem dX0_put_2_9 : decode cX0_put_2 9 = .ok (.iload_n 1, 1) := dk_27 (dk_at dksX0_put_2_0 9 rfl rfl)
theorem dX0_put_2_10 : decode cX0_put_2 10 = .ok (.invokevirtual 83, 3) := dk_182 0 83 (dk_at dksX0_put_2_0 10 rfl rfl)
theorem dX0_put_2_13 : decode cX0_put_2 13 = .ok (.iconst 3, 1) := dk_6 (dk_at dksX0_put_2_0 13 rfl rfl)
theorem dX0_put_2_14 : decode cX0_put_2 14 = .ok (.if_icmp .lt 49, 3) := dk_161 0 49 (dk_at dksX0_put_2_0 14 rfl rfl)
theorem dX0_put_2_17 : decode cX0_put_2 17 = .ok (.iload_n 2, 1) := dk_28 (dk_at dksX0_put_2_0 17 rfl rfl)
theorem dX0_put_2_18 : decode cX0_put_2 18 = .ok (.invokestatic 87, 3) := dk_184 0 87 (dk_at dksX0_put_2_0 18 rfl rfl)
theorem dX0_put_2_21 : decode cX0_put_2 21 = .ok (.ifCond .eq 42, 3) := dk_153 0 42 (dk_at dksX0_put_2_0 21 rfl rfl)
theorem dX0_put_2_24 : decode cX0_put_2 24 = .ok (.iload_n 3, 1) := dk_29 (dk_at dksX0_put_2_1 0 rfl rfl)
theorem dX0_put_2_25 : decode cX0_put_2 25 = .ok (.iconst 0, 1) := dk_3 (dk_at dksX0_put_2_1 1 rfl rfl)
theorem dX0_put_2_26 : decode cX0_put_2 26 = .ok (.aload_n 0, 1) := dk_42 (dk_at dksX0_put_2_1 2 rfl rfl)
theorem dX0_put_2_27 : decode cX0_put_2 27 = .ok (.getfield 12, 3) := dk_180 0 12 (dk_at dksX0_put_2_1 3 rfl rfl)
theorem dX0_put_2_30 : decode cX0_put_2 30 = .ok (.iload_n 2, 1) := dk_28 (dk_at dksX0_put_2_1 6 rfl rfl)
theorem dX0_put_2_31 : decode cX0_put_2 31 = .ok (.invokevirtual 189, 3) := dk_182 0 189 (dk_at dksX0_put_2_1 7 rfl rfl)
theorem dX0_put_2_34 : decode cX0_put_2 34 = .ok (.invokestatic 74, 3) := dk_184 0 74 (dk_at dksX0_put_2_1 10 rfl rfl)
theorem dX0_put_2_37 : decode cX0_put_2 37 = .ok (.ifCond .eq 26, 3) := dk_153 0 26 (dk_at dksX0_put_2_1 13 rfl rfl)
theorem dX0_put_2_40 : decode cX0_put_2 40 = .ok (.aload_n 0, 1) := dk_42 (dk_at dksX0_put_2_1 16 rfl rfl)
theorem dX0_put_2_41 : decode cX0_put_2 41 = .ok (.iload_n 2, 1) := dk_28 (dk_at dksX0_put_2_1 17 rfl rfl)
theorem dX0_put_2_42 : decode cX0_put_2 42 = .ok (.invokevirtual 90, 3) := dk_182 0 90 (dk_at dksX0_put_2_1 18 rfl rfl)
theorem dX0_put_2_45 : decode cX0_put_2 45 = .ok (.aload_n 0, 1) := dk_42 (dk_at dksX0_put_2_1 21 rfl rfl)
theorem dX0_put_2_46 : decode cX0_put_2 46 = .ok (.iload_n 1, 1) := dk_27 (dk_at dksX0_put_2_1 22 rfl rfl)
theorem dX0_put_2_47 : decode cX0_put_2 47 = .ok (.invokevirtual 196, 3) := dk_182 0 196 (dk_at dksX0_put_2_2 0 rfl rfl)
theorem dX0_put_2_50 : decode cX0_put_2 50 = .ok (.iadd, 1) := dk_96 (dk_at dksX0_put_2_2 3 rfl rfl)
theorem dX0_put_2_51 : decode cX0_put_2 51 = .ok (.aload_n 0, 1) := dk_42 (dk_at dksX0_put_2_2 4 rfl rfl)
theorem dX0_put_2_52 : decode cX0_put_2 52 = .ok (.getfield 12, 3) := dk_180 0 12 (dk_at dksX0_put_2_2 5 rfl rfl)
theorem dX0_put_2_55 : decode cX0_put_2 55 = .ok (.getfield 93, 3) := dk_180 0 93 (dk_at dksX0_put_2_2 8 rfl rfl)
theorem dX0_put_2_58 : decode cX0_put_2 58 = .ok (.iload_n 2, 1) := dk_28 (dk_at dksX0_put_2_2 11 rfl rfl)
theorem dX0_put_2_59 : decode cX0_put_2 59 = .ok (.iaload, 1) := dk_46 (dk_at dksX0_put_2_2 12 rfl rfl)
theorem dX0_put_2_60 : decode cX0_put_2 60 = .ok (.if_icmp .le 5, 3) := dk_164 0 5 (dk_at dksX0_put_2_2 13 rfl rfl)
theorem dX0_put_2_63 : decode cX0_put_2 63 = .ok (.iconst (-1), 1) := dk_2 (dk_at dksX0_put_2_2 16 rfl rfl)
theorem dX0_put_2_64 : decode cX0_put_2 64 = .ok (.ireturn, 1) := dk_172 (dk_at dksX0_put_2_2 17 rfl rfl)
theorem dX0_put_2_65 : decode cX0_put_2 65 = .ok (.aload_n 0, 1) := dk_42 (dk_at dksX0_put_2_2 18 rfl rfl)
theorem dX0_put_2_66 : decode cX0_put_2 66 = .ok (.getfield 12, 3) := dk_180 0 12 (dk_at dksX0_put_2_2 19 rfl rfl)
theorem dX0_put_2_69 : decode cX0_put_2 69 = .ok (.invokevirtual 238, 3) := dk_182 0 238 (dk_at dksX0_put_2_3 0 rfl rfl)
theorem dX0_put_2_72 : decode cX0_put_2 72 = .ok (.aload_n 0, 1) := dk_42 (dk_at dksX0_put_2_3 3 rfl rfl)
theorem dX0_put_2_73 : decode cX0_put_2 73 = .ok (.getfield 12, 3) := dk_180 0 12 (dk_at dksX0_put_2_3 4 rfl rfl)
theorem dX0_put_2_76 : decode cX0_put_2 76 = .ok (.iload_n 2, 1) := dk_28 (dk_at dksX0_put_2_3 7 rfl rfl)
theorem dX0_put_2_77 : decode cX0_put_2 77 = .ok (.iload_n 3, 1) := dk_29 (dk_at dksX0_put_2_3 8 rfl rfl)
theorem dX0_put_2_78 : decode cX0_put_2 78 = .ok (.iload_n 1, 1) := dk_27 (dk_at dksX0_put_2_3 9 rfl rfl)
theorem dX0_put_2_79 : decode cX0_put_2 79 = .ok (.invokevirtual 247, 3) := dk_182 0 247 (dk_at dksX0_put_2_3 10 rfl rfl)
theorem dX0_put_2_82 : decode cX0_put_2 82 = .ok (.aload_n 0, 1) := dk_42 (dk_at dksX0_put_2_3 13 rfl rfl)
theorem dX0_put_2_83 : decode cX0_put_2 83 = .ok (.getfield 12, 3) := dk_180 0 12 (dk_at dksX0_put_2_3 14 rfl rfl)
theorem dX0_put_2_86 : decode cX0_put_2 86 = .ok (.iload_n 2, 1) := dk_28 (dk_at dksX0_put_2_3 17 rfl rfl)
theorem dX0_put_2_87 : decode cX0_put_2 87 = .ok (.invokevirtual 189, 3) := dk_182 0 189 (dk_at dksX0_put_2_3 18 rfl rfl)
theorem dX0_put_2_90 : decode cX0_put_2 90 = .ok (.ireturn, 1) := dk_172 (dk_at dksX0_put_2_3 21 rfl rfl)
abbrev MX0_put_2 : jjM := (yX0_put_2, cX0_put_2, 4, (Option.some Jvm.ClassFile.FieldType.int))
theorem npX0_put_2 : yX0_put_2.cls ≠ "java/lang/invoke/MethodHandle" ∧ yX0_put_2.cls ≠ "java/lang/invoke/VarHandle" ∧ (parseMethodDescriptor yX0_put_2.desc).map (fun d => d.parameters.length) = some 3 := by decide +kernel
abbrev cX0_wet : ByteArray := prog_1_method_37_code
def yX0_wet : MethodName := ⟨RX0, "wet", "(Z)I"⟩
def dkwX0_wet_2 : List UInt8 := [42, 182, 0, 231, 167, 0, 4, 3, 172]
abbrev dktX0_wet_2 : List UInt8 := dkwX0_wet_2 ++ []
def dkwX0_wet_1 : List UInt8 := [2, 172, 42, 180, 0, 12, 182, 0, 238, 42, 180, 0, 12, 180, 0, 78, 16, 43, 28, 79, 27, 153, 0, 10]
abbrev dktX0_wet_1 : List UInt8 := dkwX0_wet_1 ++ dktX0_wet_2
def dkwX0_wet_0 : List UInt8 := [27, 153, 0, 7, 4, 167, 0, 4, 3, 61, 42, 180, 0, 12, 180, 0, 78, 16, 43, 46, 28, 160, 0, 5]
abbrev dktX0_wet_0 : List UInt8 := dkwX0_wet_0 ++ dktX0_wet_1
theorem dksX0_wet_0 : cX0_wet.data.toList.drop 0 = dktX0_wet_0 := by decide +kernel
theorem dksX0_wet_1 : cX0_wet.data.toList.drop 24 = dktX0_wet_1 := dk_seg dksX0_wet_0 24 rfl rfl
theorem dksX0_wet_2 : cX0_wet.data.toList.drop 48 = dktX0_wet_2 := dk_seg dksX0_wet_1 24 rfl rfl
theorem dX0_wet_0 : decode cX0_wet 0 = .ok (.iload_n 1, 1) := dk_27 (dk_at dksX0_wet_0 0 rfl rfl)
theorem dX0_wet_1 : decode cX0_wet 1 = .ok (.ifCond .eq 7, 3) := dk_153 0 7 (dk_at dksX0_wet_0 1 rfl rfl)
theorem dX0_wet_4 : decode cX0_wet 4 = .ok (.iconst 1, 1) := dk_4 (dk_at dksX0_wet_0 4 rfl rfl)
theorem dX0_wet_5 : decode cX0_wet 5 = .ok (.goto 4, 3) := dk_167 0 4 (dk_at dksX0_wet_0 5 rfl rfl)
theorem dX0_wet_8 : decode cX0_wet 8 = .ok (.iconst 0, 1) := dk_3 (dk_at dksX0_wet_0 8 rfl rfl)
theorem dX0_wet_9 : decode cX0_wet 9 = .ok (.istore_n 2, 1) := dk_61 (dk_at dksX0_wet_0 9 rfl rfl)
theorem dX0_wet_10 : decode cX0_wet 10 = .ok (.aload_n 0, 1) := dk_42 (dk_at dksX0_wet_0 10 rfl rfl)
theorem dX0_wet_11 : decode cX0_wet 11 = .ok (.getfield 12, 3) := dk_180 0 12 (dk_at dksX0_wet_0 11 rfl rfl)
theorem dX0_wet_14 : decode cX0_wet 14 = .ok (.getfield 78, 3) := dk_180 0 78 (dk_at dksX0_wet_0 14 rfl rfl)
theorem dX0_wet_17 : decode cX0_wet 17 = .ok (.bipush 43, 2) := dk_16 43 (dk_at dksX0_wet_0 17 rfl rfl)
theorem dX0_wet_19 : decode cX0_wet 19 = .ok (.iaload, 1) := dk_46 (dk_at dksX0_wet_0 19 rfl rfl)
theorem dX0_wet_20 : decode cX0_wet 20 = .ok (.iload_n 2, 1) := dk_28 (dk_at dksX0_wet_0 20 rfl rfl)
theorem dX0_wet_21 : decode cX0_wet 21 = .ok (.if_icmp .ne 5, 3) := dk_160 0 5 (dk_at dksX0_wet_0 21 rfl rfl)
theorem dX0_wet_24 : decode cX0_wet 24 = .ok (.iconst (-1), 1) := dk_2 (dk_at dksX0_wet_1 0 rfl rfl)
theorem dX0_wet_25 : decode cX0_wet 25 = .ok (.ireturn, 1) := dk_172 (dk_at dksX0_wet_1 1 rfl rfl)
theorem dX0_wet_26 : decode cX0_wet 26 = .ok (.aload_n 0, 1) := dk_42 (dk_at dksX0_wet_1 2 rfl rfl)
theorem dX0_wet_27 : decode cX0_wet 27 = .ok (.getfield 12, 3) := dk_180 0 12 (dk_at dksX0_wet_1 3 rfl rfl)
theorem dX0_wet_30 : decode cX0_wet 30 = .ok (.invokevirtual 238, 3) := dk_182 0 238 (dk_at dksX0_wet_1 6 rfl rfl)
theorem dX0_wet_33 : decode cX0_wet 33 = .ok (.aload_n 0, 1) := dk_42 (dk_at dksX0_wet_1 9 rfl rfl)
theorem dX0_wet_34 : decode cX0_wet 34 = .ok (.getfield 12, 3) := dk_180 0 12 (dk_at dksX0_wet_1 10 rfl rfl)
theorem dX0_wet_37 : decode cX0_wet 37 = .ok (.getfield 78, 3) := dk_180 0 78 (dk_at dksX0_wet_1 13 rfl rfl)
theorem dX0_wet_40 : decode cX0_wet 40 = .ok (.bipush 43, 2) := dk_16 43 (dk_at dksX0_wet_1 16 rfl rfl)
theorem dX0_wet_42 : decode cX0_wet 42 = .ok (.iload_n 2, 1) := dk_28 (dk_at dksX0_wet_1 18 rfl rfl)
theorem dX0_wet_43 : decode cX0_wet 43 = .ok (.iastore, 1) := dk_79 (dk_at dksX0_wet_1 19 rfl rfl)
theorem dX0_wet_44 : decode cX0_wet 44 = .ok (.iload_n 1, 1) := dk_27 (dk_at dksX0_wet_1 20 rfl rfl)
theorem dX0_wet_45 : decode cX0_wet 45 = .ok (.ifCond .eq 10, 3) := dk_153 0 10 (dk_at dksX0_wet_1 21 rfl rfl)
theorem dX0_wet_48 : decode cX0_wet 48 = .ok (.aload_n 0, 1) := dk_42 (dk_at dksX0_wet_2 0 rfl rfl)
theorem dX0_wet_49 : decode cX0_wet 49 = .ok (.invokevirtual 231, 3) := dk_182 0 231 (dk_at dksX0_wet_2 1 rfl rfl)
theorem dX0_wet_52 : decode cX0_wet 52 = .ok (.goto 4, 3) := dk_167 0 4 (dk_at dksX0_wet_2 4 rfl rfl)
theorem dX0_wet_55 : decode cX0_wet 55 = .ok (.iconst 0, 1) := dk_3 (dk_at dksX0_wet_2 7 rfl rfl)
theorem dX0_wet_56 : decode cX0_wet 56 = .ok (.ireturn, 1) := dk_172 (dk_at dksX0_wet_2 8 rfl rfl)
abbrev MX0_wet : jjM := (yX0_wet, cX0_wet, 3, (Option.some Jvm.ClassFile.FieldType.int))
theorem npX0_wet : yX0_wet.cls ≠ "java/lang/invoke/MethodHandle" ∧ yX0_wet.cls ≠ "java/lang/invoke/VarHandle" ∧ (parseMethodDescriptor yX0_wet.desc).map (fun d => d.parameters.length) = some 1 := by decide +kernel
abbrev cX0_played : ByteArray := prog_1_method_38_code
def yX0_played : MethodName := ⟨RX0, "played", "(I)I"⟩
def dkwX0_played_8 : List UInt8 := [54, 5, 21, 5, 2, 160, 0, 9, 25, 4, 182, 1, 37, 172, 132, 3, 1, 167, 255, 94, 2, 172]
abbrev dktX0_played_8 : List UInt8 := dkwX0_played_8 ++ []
def dkwX0_played_7 : List UInt8 := [167, 0, 25, 42, 25, 4, 182, 1, 9, 17, 0, 208, 160, 0, 7, 4, 167, 0, 4, 3, 182, 1, 33]
abbrev dktX0_played_7 : List UInt8 := dkwX0_played_7 ++ dktX0_played_8
def dkwX0_played_6 : List UInt8 := [167, 0, 49, 42, 25, 4, 182, 1, 12, 25, 4, 182, 1, 18, 25, 4, 182, 1, 27, 182, 1, 30, 54, 5]
abbrev dktX0_played_6 : List UInt8 := dkwX0_played_6 ++ dktX0_played_7
def dkwX0_played_5 : List UInt8 := [182, 1, 18, 182, 1, 21, 54, 5, 167, 0, 63, 42, 25, 4, 182, 1, 12, 182, 1, 24, 54, 5]
abbrev dktX0_played_5 : List UInt8 := dkwX0_played_5 ++ dktX0_played_6
def dkwX0_played_4 : List UInt8 := [42, 25, 4, 182, 1, 12, 182, 1, 15, 54, 5, 167, 0, 82, 42, 25, 4, 182, 1, 12, 25, 4]
abbrev dktX0_played_4 : List UInt8 := dkwX0_played_4 ++ dktX0_played_5
def dkwX0_played_3 : List UInt8 := [170, 0, 0, 0, 0, 0, 102, 0, 0, 0, 204, 0, 0, 0, 207, 0, 0, 0, 31, 0, 0, 0, 45, 0, 0, 0, 64, 0, 0, 0, 78]
abbrev dktX0_played_3 : List UInt8 := dkwX0_played_3 ++ dktX0_played_4
def dkwX0_played_2 : List UInt8 := [182, 1, 9]
abbrev dktX0_played_2 : List UInt8 := dkwX0_played_2 ++ dktX0_played_3
def dkwX0_played_1 : List UInt8 := [3, 62, 29, 44, 182, 0, 254, 162, 0, 160, 44, 29, 182, 1, 3, 192, 1, 7, 58, 4, 25, 4]
abbrev dktX0_played_1 : List UInt8 := dkwX0_played_1 ++ dktX0_played_2
def dkwX0_played_0 : List UInt8 := [42, 27, 182, 0, 129, 154, 0, 6, 16, 254, 172, 42, 180, 0, 12, 180, 0, 110, 27, 50, 180, 0, 250, 77]
abbrev dktX0_played_0 : List UInt8 := dkwX0_played_0 ++ dktX0_played_1
theorem dksX0_played_0 : cX0_played.data.toList.drop 0 = dktX0_played_0 := by decide +kernel
theorem dksX0_played_1 : cX0_played.data.toList.drop 24 = dktX0_played_1 := dk_seg dksX0_played_0 24 rfl rfl
theorem dksX0_played_2 : cX0_played.data.toList.drop 46 = dktX0_played_2 := dk_seg dksX0_played_1 22 rfl rfl
theorem dksX0_played_3 : cX0_played.data.toList.drop 49 = dktX0_played_3 := dk_seg dksX0_played_2 3 rfl rfl
theorem dksX0_played_4 : cX0_played.data.toList.drop 80 = dktX0_played_4 := dk_seg dksX0_played_3 31 rfl rfl
theorem dksX0_played_5 : cX0_played.data.toList.drop 102 = dktX0_played_5 := dk_seg dksX0_played_4 22 rfl rfl
theorem dksX0_played_6 : cX0_played.data.toList.drop 124 = dktX0_played_6 := dk_seg dksX0_played_5 22 rfl rfl
theorem dksX0_played_7 : cX0_played.data.toList.drop 148 = dktX0_played_7 := dk_seg dksX0_played_6 24 rfl rfl
theorem dksX0_played_8 : cX0_played.data.toList.drop 171 = dktX0_played_8 := dk_seg dksX0_played_7 23 rfl rfl
theorem dX0_played_0 : decode cX0_played 0 = .ok (.aload_n 0, 1) := dk_42 (dk_at dksX0_played_0 0 rfl rfl)
theorem dX0_played_1 : decode cX0_played 1 = .ok (.iload_n 1, 1) := dk_27 (dk_at dksX0_played_0 1 rfl rfl)
theorem dX0_played_2 : decode cX0_played 2 = .ok (.invokevirtual 129, 3) := dk_182 0 129 (dk_at dksX0_played_0 2 rfl rfl)
theorem dX0_played_5 : decode cX0_played 5 = .ok (.ifCond .ne 6, 3) := dk_154 0 6 (dk_at dksX0_played_0 5 rfl rfl)
theorem dX0_played_8 : decode cX0_played 8 = .ok (.bipush (-2), 2) := dk_16 254 (dk_at dksX0_played_0 8 rfl rfl)
theorem dX0_played_10 : decode cX0_played 10 = .ok (.ireturn, 1) := dk_172 (dk_at dksX0_played_0 10 rfl rfl)
theorem dX0_played_11 : decode cX0_played 11 = .ok (.aload_n 0, 1) := dk_42 (dk_at dksX0_played_0 11 rfl rfl)
theorem dX0_played_12 : decode cX0_played 12 = .ok (.getfield 12, 3) := dk_180 0 12 (dk_at dksX0_played_0 12 rfl rfl)
theorem dX0_played_15 : decode cX0_played 15 = .ok (.getfield 110, 3) := dk_180 0 110 (dk_at dksX0_played_0 15 rfl rfl)
theorem dX0_played_18 : decode cX0_played 18 = .ok (.iload_n 1, 1) := dk_27 (dk_at dksX0_played_0 18 rfl rfl)
theorem dX0_played_19 : decode cX0_played 19 = .ok (.aaload, 1) := dk_50 (dk_at dksX0_played_0 19 rfl rfl)
theorem dX0_played_20 : decode cX0_played 20 = .ok (.getfield 250, 3) := dk_180 0 250 (dk_at dksX0_played_0 20 rfl rfl)
theorem dX0_played_23 : decode cX0_played 23 = .ok (.astore_n 2, 1) := dk_77 (dk_at dksX0_played_0 23 rfl rfl)
theorem dX0_played_24 : decode cX0_played 24 = .ok (.iconst 0, 1) := dk_3 (dk_at dksX0_played_1 0 rfl rfl)
theorem dX0_played_25 : decode cX0_played 25 = .ok (.istore_n 3, 1) := dk_62 (dk_at dksX0_played_1 1 rfl rfl)
theorem dX0_played_26 : decode cX0_played 26 = .ok (.iload_n 3, 1) := dk_29 (dk_at dksX0_played_1 2 rfl rfl)
theorem dX0_played_27 : decode cX0_played 27 = .ok (.aload_n 2, 1) := dk_44 (dk_at dksX0_played_1 3 rfl rfl)
theorem dX0_played_28 : decode cX0_played 28 = .ok (.invokevirtual 254, 3) := dk_182 0 254 (dk_at dksX0_played_1 4 rfl rfl)
theorem dX0_played_31 : decode cX0_played 31 = .ok (.if_icmp .ge 160, 3) := dk_162 0 160 (dk_at dksX0_played_1 7 rfl rfl)
theorem dX0_played_34 : decode cX0_played 34 = .ok (.aload_n 2, 1) := dk_44 (dk_at dksX0_played_1 10 rfl rfl)
theorem dX0_played_35 : decode cX0_played 35 = .ok (.iload_n 3, 1) := dk_29 (dk_at dksX0_played_1 11 rfl rfl)
theorem dX0_played_36 : decode cX0_played 36 = .ok (.invokevirtual 259, 3) := dk_182 1 3 (dk_at dksX0_played_1 12 rfl rfl)
theorem dX0_played_39 : decode cX0_played 39 = .ok (.checkcast 263, 3) := dk_192 1 7 (dk_at dksX0_played_1 15 rfl rfl)
theorem dX0_played_42 : decode cX0_played 42 = .ok (.astore 4, 2) := dk_58 4 (dk_at dksX0_played_1 18 rfl rfl)
theorem dX0_played_44 : decode cX0_played 44 = .ok (.aload 4, 2) := dk_25 4 (dk_at dksX0_played_1 20 rfl rfl)
theorem dX0_played_46 : decode cX0_played 46 = .ok (.invokevirtual 265, 3) := dk_182 1 9 (dk_at dksX0_played_2 0 rfl rfl)
theorem dX0_played_49 : decode cX0_played 49 = .ok (.tableswitch 102 204 207 #[31, 45, 64, 78], 31) := by decide +kernel
theorem dX0_played_80 : decode cX0_played 80 = .ok (.aload_n 0, 1) := dk_42 (dk_at dksX0_played_4 0 rfl rfl)
theorem dX0_played_81 : decode cX0_played 81 = .ok (.aload 4, 2) := dk_25 4 (dk_at dksX0_played_4 1 rfl rfl)
theorem dX0_played_83 : decode cX0_played 83 = .ok (.invokevirtual 268, 3) := dk_182 1 12 (dk_at dksX0_played_4 3 rfl rfl)
theorem dX0_played_86 : decode cX0_played 86 = .ok (.invokevirtual 271, 3) := dk_182 1 15 (dk_at dksX0_played_4 6 rfl rfl)
theorem dX0_played_89 : decode cX0_played 89 = .ok (.istore 5, 2) := dk_54 5 (dk_at dksX0_played_4 9 rfl rfl)
theorem dX0_played_91 : decode cX0_played 91 = .ok (.goto 82, 3) := dk_167 0 82 (dk_at dksX0_played_4 11 rfl rfl)
theorem dX0_played_94 : decode cX0_played 94 = .ok (.aload_n 0, 1) := dk_42 (dk_at dksX0_played_4 14 rfl rfl)
theorem dX0_played_95 : decode cX0_played 95 = .ok (.aload 4, 2) := dk_25 4 (dk_at dksX0_played_4 15 rfl rfl)
theorem dX0_played_97 : decode cX0_played 97 = .ok (.invokevirtual 268, 3) := dk_182 1 12 (dk_at dksX0_played_4 17 rfl rfl)
theorem dX0_played_100 : decode cX0_played 100 = .ok (.aload 4, 2) := dk_25 4 (dk_at dksX0_played_4 20 rfl rfl)
theorem dX0_played_102 : decode cX0_played 102 = .ok (.invokevirtual 274, 3) := dk_182 1 18 (dk_at dksX0_played_5 0 rfl rfl)
theorem dX0_played_105 : decode cX0_played 105 = .ok (.invokevirtual 277, 3) := dk_182 1 21 (dk_at dksX0_played_5 3 rfl rfl)
theorem dX0_played_108 : decode cX0_played 108 = .ok (.istore 5, 2) := dk_54 5 (dk_at dksX0_played_5 6 rfl rfl)
theorem dX0_played_110 : decode cX0_played 110 = .ok (.goto 63, 3) := dk_167 0 63 (dk_at dksX0_played_5 8 rfl rfl)
theorem dX0_played_113 : decode cX0_played 113 = .ok (.aload_n 0, 1) := dk_42 (dk_at dksX0_played_5 11 rfl rfl)
theorem dX0_played_114 : decode cX0_played 114 = .ok (.aload 4, 2) := dk_25 4 (dk_at dksX0_played_5 12 rfl rfl)
theorem dX0_played_116 : decode cX0_played 116 = .ok (.invokevirtual 268, 3) := dk_182 1 12 (dk_at dksX0_played_5 14 rfl rfl)
theorem dX0_played_119 : decode cX0_played 119 = .ok (.invokevirtual 280, 3) := dk_182 1 24 (dk_at dksX0_played_5 17 rfl rfl)
theorem dX0_played_122 : decode cX0_played 122 = .ok (.istore 5, 2) := dk_54 5 (dk_at dksX0_played_5 20 rfl rfl)
theorem dX0_played_124 : decode cX0_played 124 = .ok (.goto 49, 3) := dk_167 0 49 (dk_at dksX0_played_6 0 rfl rfl)
theorem dX0_played_127 : decode cX0_played 127 = .ok (.aload_n 0, 1) := dk_42 (dk_at dksX0_played_6 3 rfl rfl)
theorem dX0_played_128 : decode cX0_played 128 = .ok (.aload 4, 2) := dk_25 4 (dk_at dksX0_played_6 4 rfl rfl)
theorem dX0_played_130 : decode cX0_played 130 = .ok (.invokevirtual 268, 3) := dk_182 1 12 (dk_at dksX0_played_6 6 rfl rfl)
theorem dX0_played_133 : decode cX0_played 133 = .ok (.aload 4, 2) := dk_25 4 (dk_at dksX0_played_6 9 rfl rfl)
theorem dX0_played_135 : decode cX0_played 135 = .ok (.invokevirtual 274, 3) := dk_182 1 18 (dk_at dksX0_played_6 11 rfl rfl)
theorem dX0_played_138 : decode cX0_played 138 = .ok (.aload 4, 2) := dk_25 4 (dk_at dksX0_played_6 14 rfl rfl)
theorem dX0_played_140 : decode cX0_played 140 = .ok (.invokevirtual 283, 3) := dk_182 1 27 (dk_at dksX0_played_6 16 rfl rfl)
theorem dX0_played_143 : decode cX0_played 143 = .ok (.invokevirtual 286, 3) := dk_182 1 30 (dk_at dksX0_played_6 19 rfl rfl)
theorem dX0_played_146 : decode cX0_played 146 = .ok (.istore 5, 2) := dk_54 5 (dk_at dksX0_played_6 22 rfl rfl)
theorem dX0_played_148 : decode cX0_played 148 = .ok (.goto 25, 3) := dk_167 0 25 (dk_at dksX0_played_7 0 rfl rfl)
theorem dX0_played_151 : decode cX0_played 151 = .ok (.aload_n 0, 1) := dk_42 (dk_at dksX0_played_7 3 rfl rfl)
theorem dX0_played_152 : decode cX0_played 152 = .ok (.aload 4, 2) := dk_25 4 (dk_at dksX0_played_7 4 rfl rfl)
theorem dX0_played_154 : decode cX0_played 154 = .ok (.invokevirtual 265, 3) := dk_182 1 9 (dk_at dksX0_played_7 6 rfl rfl)
theorem dX0_played_157 : decode cX0_played 157 = .ok (.sipush 208, 3) := dk_17 0 208 (dk_at dksX0_played_7 9 rfl rfl)
theorem dX0_played_160 : decode cX0_played 160 = .ok (.if_icmp .ne 7, 3) := dk_160 0 7 (dk_at dksX0_played_7 12 rfl rfl)
theorem dX0_played_163 : decode cX0_played 163 = .ok (.iconst 1, 1) := dk_4 (dk_at dksX0_played_7 15 rfl rfl)
theorem dX0_played_164 : decode cX0_played 164 = .ok (.goto 4, 3) := dk_167 0 4 (dk_at dksX0_played_7 16 rfl rfl)
theorem dX0_played_167 : decode cX0_played 167 = .ok (.iconst 0, 1) := dk_3 (dk_at dksX0_played_7 19 rfl rfl)
theorem dX0_played_168 : decode cX0_played 168 = .ok (.invokevirtual 289, 3) := dk_182 1 33 (dk_at dksX0_played_7 20 rfl rfl)
theorem dX0_played_171 : decode cX0_played 171 = .ok (.istore 5, 2) := dk_54 5 (dk_at dksX0_played_8 0 rfl rfl)
theorem dX0_played_173 : decode cX0_played 173 = .ok (.iload 5, 2) := dk_21 5 (dk_at dksX0_played_8 2 rfl rfl)
theorem dX0_played_175 : decode cX0_played 175 = .ok (.iconst (-1), 1) := dk_2 (dk_at dksX0_played_8 4 rfl rfl)
theorem dX0_played_176 : decode cX0_played 176 = .ok (.if_icmp .ne 9, 3) := dk_160 0 9 (dk_at dksX0_played_8 5 rfl rfl)
theorem dX0_played_179 : decode cX0_played 179 = .ok (.aload 4, 2) := dk_25 4 (dk_at dksX0_played_8 8 rfl rfl)
theorem dX0_played_181 : decode cX0_played 181 = .ok (.invokevirtual 293, 3) := dk_182 1 37 (dk_at dksX0_played_8 10 rfl rfl)
theorem dX0_played_184 : decode cX0_played 184 = .ok (.ireturn, 1) := dk_172 (dk_at dksX0_played_8 13 rfl rfl)
theorem dX0_played_185 : decode cX0_played 185 = .ok (.iinc 3 1, 3) := dk_132 3 1 (dk_at dksX0_played_8 14 rfl rfl)
theorem dX0_played_188 : decode cX0_played 188 = .ok (.goto (-162), 3) := dk_167 255 94 (dk_at dksX0_played_8 17 rfl rfl)
theorem dX0_played_191 : decode cX0_played 191 = .ok (.iconst (-1), 1) := dk_2 (dk_at dksX0_played_8 20 rfl rfl)
theorem dX0_played_192 : decode cX0_played 192 = .ok (.ireturn, 1) := dk_172 (dk_at dksX0_played_8 21 rfl rfl)
abbrev MX0_played : jjM := (yX0_played, cX0_played, 6, (Option.some Jvm.ClassFile.FieldType.int))
theorem npX0_played : yX0_played.cls ≠ "java/lang/invoke/MethodHandle" ∧ yX0_played.cls ≠ "java/lang/invoke/VarHandle" ∧ (parseMethodDescriptor yX0_played.desc).map (fun d => d.parameters.length) = some 1 := by decide +kernel
abbrev cX0_year : ByteArray := prog_1_method_40_code
def yX0_year : MethodName := ⟨RX0, "year", "(II)I"⟩
def dkwX0_year_10 : List UInt8 := [167, 0, 4, 3, 54, 7, 132, 4, 1, 167, 255, 78, 29, 172]
abbrev dktX0_year_10 : List UInt8 := dkwX0_year_10 ++ []
def dkwX0_year_9 : List UInt8 := [16, 43, 46, 100, 79, 42, 180, 0, 12, 180, 0, 78, 16, 43, 46, 4, 160, 0, 10, 42, 182, 0, 231]
abbrev dktX0_year_9 : List UInt8 := dkwX0_year_9 ++ dktX0_year_10
def dkwX0_year_8 : List UInt8 := [161, 0, 6, 167, 0, 49, 42, 180, 0, 12, 180, 0, 78, 16, 43, 4, 42, 180, 0, 12, 180, 0, 78]
abbrev dktX0_year_8 : List UInt8 := dkwX0_year_8 ++ dktX0_year_9
def dkwX0_year_7 : List UInt8 := [21, 7, 21, 8, 160, 0, 7, 3, 167, 0, 4, 4, 96, 62, 42, 182, 1, 40, 16, 10, 112, 6]
abbrev dktX0_year_7 : List UInt8 := dkwX0_year_7 ++ dktX0_year_8
def dkwX0_year_6 : List UInt8 := [180, 0, 12, 21, 6, 21, 8, 182, 0, 210, 42, 180, 0, 12, 21, 6, 21, 7, 21, 5, 182, 0, 247, 29]
abbrev dktX0_year_6 : List UInt8 := dkwX0_year_6 ++ dktX0_year_7
def dkwX0_year_5 : List UInt8 := [180, 0, 12, 21, 6, 182, 0, 189, 112, 54, 7, 42, 180, 0, 12, 21, 5, 182, 0, 244, 54, 8, 42]
abbrev dktX0_year_5 : List UInt8 := dkwX0_year_5 ++ dktX0_year_6
def dkwX0_year_4 : List UInt8 := [21, 6, 6, 162, 0, 82, 42, 180, 0, 12, 21, 6, 182, 0, 189, 4, 164, 0, 69, 42, 182, 1, 40, 42]
abbrev dktX0_year_4 : List UInt8 := dkwX0_year_4 ++ dktX0_year_5
def dkwX0_year_3 : List UInt8 := [182, 1, 40, 42, 180, 0, 12, 180, 0, 71, 3, 46, 112, 54, 5, 42, 21, 5, 182, 0, 83, 54, 6]
abbrev dktX0_year_3 : List UInt8 := dkwX0_year_3 ++ dktX0_year_4
def dkwX0_year_2 : List UInt8 := [180, 0, 78, 16, 45, 27, 7, 104, 16, 31, 96, 79, 3, 62, 3, 54, 4, 21, 4, 28, 162, 0, 178, 42]
abbrev dktX0_year_2 : List UInt8 := dkwX0_year_2 ++ dktX0_year_3
def dkwX0_year_1 : List UInt8 := [180, 0, 12, 180, 0, 71, 3, 46, 154, 0, 5, 2, 172, 42, 180, 0, 12, 182, 0, 238, 42, 180, 0, 12]
abbrev dktX0_year_1 : List UInt8 := dkwX0_year_1 ++ dktX0_year_2
def dkwX0_year_0 : List UInt8 := [27, 3, 17, 39, 15, 184, 0, 74, 153, 0, 25, 28, 4, 16, 40, 184, 0, 74, 153, 0, 15, 42]
abbrev dktX0_year_0 : List UInt8 := dkwX0_year_0 ++ dktX0_year_1
theorem dksX0_year_0 : cX0_year.data.toList.drop 0 = dktX0_year_0 := by decide +kernel
theorem dksX0_year_1 : cX0_year.data.toList.drop 22 = dktX0_year_1 := dk_seg dksX0_year_0 22 rfl rfl
theorem dksX0_year_2 : cX0_year.data.toList.drop 46 = dktX0_year_2 := dk_seg dksX0_year_1 24 rfl rfl
theorem dksX0_year_3 : cX0_year.data.toList.drop 70 = dktX0_year_3 := dk_seg dksX0_year_2 24 rfl rfl
theorem dksX0_year_4 : cX0_year.data.toList.drop 93 = dktX0_year_4 := dk_seg dksX0_year_3 23 rfl rfl
theorem dksX0_year_5 : cX0_year.data.toList.drop 117 = dktX0_year_5 := dk_seg dksX0_year_4 24 rfl rfl
theorem dksX0_year_6 : cX0_year.data.toList.drop 140 = dktX0_year_6 := dk_seg dksX0_year_5 23 rfl rfl
theorem dksX0_year_7 : cX0_year.data.toList.drop 164 = dktX0_year_7 := dk_seg dksX0_year_6 24 rfl rfl
theorem dksX0_year_8 : cX0_year.data.toList.drop 186 = dktX0_year_8 := dk_seg dksX0_year_7 22 rfl rfl
theorem dksX0_year_9 : cX0_year.data.toList.drop 209 = dktX0_year_9 := dk_seg dksX0_year_8 23 rfl rfl
theorem dksX0_year_10 : cX0_year.data.toList.drop 232 = dktX0_year_10 := dk_seg dksX0_year_9 23 rfl rfl
theorem dX0_year_0 : decode cX0_year 0 = .ok (.iload_n 1, 1) := dk_27 (dk_at dksX0_year_0 0 rfl rfl)
theorem dX0_year_1 : decode cX0_year 1 = .ok (.iconst 0, 1) := dk_3 (dk_at dksX0_year_0 1 rfl rfl)
theorem dX0_year_2 : decode cX0_year 2 = .ok (.sipush 9999, 3) := dk_17 39 15 (dk_at dksX0_year_0 2 rfl rfl)
theorem dX0_year_5 : decode cX0_year 5 = .ok (.invokestatic 74, 3) := dk_184 0 74 (dk_at dksX0_year_0 5 rfl rfl)
theorem dX0_year_8 : decode cX0_year 8 = .ok (.ifCond .eq 25, 3) := dk_153 0 25 (dk_at dksX0_year_0 8 rfl rfl)
theorem dX0_year_11 : decode cX0_year 11 = .ok (.iload_n 2, 1) := dk_28 (dk_at dksX0_year_0 11 rfl rfl)
theorem dX0_year_12 : decode cX0_year 12 = .ok (.iconst 1, 1) := dk_4 (dk_at dksX0_year_0 12 rfl rfl)
theorem dX0_year_13 : decode cX0_year 13 = .ok (.bipush 40, 2) := dk_16 40 (dk_at dksX0_year_0 13 rfl rfl)
theorem dX0_year_15 : decode cX0_year 15 = .ok (.invokestatic 74, 3) := dk_184 0 74 (dk_at dksX0_year_0 15 rfl rfl)
theorem dX0_year_18 : decode cX0_year 18 = .ok (.ifCond .eq 15, 3) := dk_153 0 15 (dk_at dksX0_year_0 18 rfl rfl)
theorem dX0_year_21 : decode cX0_year 21 = .ok (.aload_n 0, 1) := dk_42 (dk_at dksX0_year_0 21 rfl rfl)
theorem dX0_year_22 : decode cX0_year 22 = .ok (.getfield 12, 3) := dk_180 0 12 (dk_at dksX0_year_1 0 rfl rfl)
theorem dX0_year_25 : decode cX0_year 25 = .ok (.getfield 71, 3) := dk_180 0 71 (dk_at dksX0_year_1 3 rfl rfl)
theorem dX0_year_28 : decode cX0_year 28 = .ok (.iconst 0, 1) := dk_3 (dk_at dksX0_year_1 6 rfl rfl)
theorem dX0_year_29 : decode cX0_year 29 = .ok (.iaload, 1) := dk_46 (dk_at dksX0_year_1 7 rfl rfl)
theorem dX0_year_30 : decode cX0_year 30 = .ok (.ifCond .ne 5, 3) := dk_154 0 5 (dk_at dksX0_year_1 8 rfl rfl)
theorem dX0_year_33 : decode cX0_year 33 = .ok (.iconst (-1), 1) := dk_2 (dk_at dksX0_year_1 11 rfl rfl)
theorem dX0_year_34 : decode cX0_year 34 = .ok (.ireturn, 1) := dk_172 (dk_at dksX0_year_1 12 rfl rfl)
theorem dX0_year_35 : decode cX0_year 35 = .ok (.aload_n 0, 1) := dk_42 (dk_at dksX0_year_1 13 rfl rfl)
theorem dX0_year_36 : decode cX0_year 36 = .ok (.getfield 12, 3) := dk_180 0 12 (dk_at dksX0_year_1 14 rfl rfl)
theorem dX0_year_39 : decode cX0_year 39 = .ok (.invokevirtual 238, 3) := dk_182 0 238 (dk_at dksX0_year_1 17 rfl rfl)
theorem dX0_year_42 : decode cX0_year 42 = .ok (.aload_n 0, 1) := dk_42 (dk_at dksX0_year_1 20 rfl rfl)
theorem dX0_year_43 : decode cX0_year 43 = .ok (.getfield 12, 3) := dk_180 0 12 (dk_at dksX0_year_1 21 rfl rfl)
theorem dX0_year_46 : decode cX0_year 46 = .ok (.getfield 78, 3) := dk_180 0 78 (dk_at dksX0_year_2 0 rfl rfl)
theorem dX0_year_49 : decode cX0_year 49 = .ok (.bipush 45, 2) := dk_16 45 (dk_at dksX0_year_2 3 rfl rfl)
theorem dX0_year_51 : decode cX0_year 51 = .ok (.iload_n 1, 1) := dk_27 (dk_at dksX0_year_2 5 rfl rfl)
theorem dX0_year_52 : decode cX0_year 52 = .ok (.iconst 4, 1) := dk_7 (dk_at dksX0_year_2 6 rfl rfl)
theorem dX0_year_53 : decode cX0_year 53 = .ok (.imul, 1) := dk_104 (dk_at dksX0_year_2 7 rfl rfl)
theorem dX0_year_54 : decode cX0_year 54 = .ok (.bipush 31, 2) := dk_16 31 (dk_at dksX0_year_2 8 rfl rfl)
theorem dX0_year_56 : decode cX0_year 56 = .ok (.iadd, 1) := dk_96 (dk_at dksX0_year_2 10 rfl rfl)
theorem dX0_year_57 : decode cX0_year 57 = .ok (.iastore, 1) := dk_79 (dk_at dksX0_year_2 11 rfl rfl)
theorem dX0_year_58 : decode cX0_year 58 = .ok (.iconst 0, 1) := dk_3 (dk_at dksX0_year_2 12 rfl rfl)
theorem dX0_year_59 : decode cX0_year 59 = .ok (.istore_n 3, 1) := dk_62 (dk_at dksX0_year_2 13 rfl rfl)
theorem dX0_year_60 : decode cX0_year 60 = .ok (.iconst 0, 1) := dk_3 (dk_at dksX0_year_2 14 rfl rfl)
theorem dX0_year_61 : decode cX0_year 61 = .ok (.istore 4, 2) := dk_54 4 (dk_at dksX0_year_2 15 rfl rfl)
theorem dX0_year_63 : decode cX0_year 63 = .ok (.iload 4, 2) := dk_21 4 (dk_at dksX0_year_2 17 rfl rfl)
theorem dX0_year_65 : decode cX0_year 65 = .ok (.iload_n 2, 1) := dk_28 (dk_at dksX0_year_2 19 rfl rfl)
theorem dX0_year_66 : decode cX0_year 66 = .ok (.if_icmp .ge 178, 3) := dk_162 0 178 (dk_at dksX0_year_2 20 rfl rfl)
theorem dX0_year_69 : decode cX0_year 69 = .ok (.aload_n 0, 1) := dk_42 (dk_at dksX0_year_2 23 rfl rfl)
theorem dX0_year_70 : decode cX0_year 70 = .ok (.invokevirtual 296, 3) := dk_182 1 40 (dk_at dksX0_year_3 0 rfl rfl)
theorem dX0_year_73 : decode cX0_year 73 = .ok (.aload_n 0, 1) := dk_42 (dk_at dksX0_year_3 3 rfl rfl)
theorem dX0_year_74 : decode cX0_year 74 = .ok (.getfield 12, 3) := dk_180 0 12 (dk_at dksX0_year_3 4 rfl rfl)
theorem dX0_year_77 : decode cX0_year 77 = .ok (.getfield 71, 3) := dk_180 0 71 (dk_at dksX0_year_3 7 rfl rfl)
theorem dX0_year_80 : decode cX0_year 80 = .ok (.iconst 0, 1) := dk_3 (dk_at dksX0_year_3 10 rfl rfl)
theorem dX0_year_81 : decode cX0_year 81 = .ok (.iaload, 1) := dk_46 (dk_at dksX0_year_3 11 rfl rfl)
theorem dX0_year_82 : decode cX0_year 82 = .ok (.irem, 1) := dk_112 (dk_at dksX0_year_3 12 rfl rfl)
theorem dX0_year_83 : decode cX0_year 83 = .ok (.istore 5, 2) := dk_54 5 (dk_at dksX0_year_3 13 rfl rfl)
theorem dX0_year_85 : decode cX0_year 85 = .ok (.aload_n 0, 1) := dk_42 (dk_at dksX0_year_3 15 rfl rfl)
theorem dX0_year_86 : decode cX0_year 86 = .ok (.iload 5, 2) := dk_21 5 (dk_at dksX0_year_3 16 rfl rfl)
theorem dX0_year_88 : decode cX0_year 88 = .ok (.invokevirtual 83, 3) := dk_182 0 83 (dk_at dksX0_year_3 18 rfl rfl)
theorem dX0_year_91 : decode cX0_year 91 = .ok (.istore 6, 2) := dk_54 6 (dk_at dksX0_year_3 21 rfl rfl)
theorem dX0_year_93 : decode cX0_year 93 = .ok (.iload 6, 2) := dk_21 6 (dk_at dksX0_year_4 0 rfl rfl)
theorem dX0_year_95 : decode cX0_year 95 = .ok (.iconst 3, 1) := dk_6 (dk_at dksX0_year_4 2 rfl rfl)
theorem dX0_year_96 : decode cX0_year 96 = .ok (.if_icmp .ge 82, 3) := dk_162 0 82 (dk_at dksX0_year_4 3 rfl rfl)
theorem dX0_year_99 : decode cX0_year 99 = .ok (.aload_n 0, 1) := dk_42 (dk_at dksX0_year_4 6 rfl rfl)
theorem dX0_year_100 : decode cX0_year 100 = .ok (.getfield 12, 3) := dk_180 0 12 (dk_at dksX0_year_4 7 rfl rfl)
theorem dX0_year_103 : decode cX0_year 103 = .ok (.iload 6, 2) := dk_21 6 (dk_at dksX0_year_4 10 rfl rfl)
theorem dX0_year_105 : decode cX0_year 105 = .ok (.invokevirtual 189, 3) := dk_182 0 189 (dk_at dksX0_year_4 12 rfl rfl)
theorem dX0_year_108 : decode cX0_year 108 = .ok (.iconst 1, 1) := dk_4 (dk_at dksX0_year_4 15 rfl rfl)
theorem dX0_year_109 : decode cX0_year 109 = .ok (.if_icmp .le 69, 3) := dk_164 0 69 (dk_at dksX0_year_4 16 rfl rfl)
theorem dX0_year_112 : decode cX0_year 112 = .ok (.aload_n 0, 1) := dk_42 (dk_at dksX0_year_4 19 rfl rfl)
theorem dX0_year_113 : decode cX0_year 113 = .ok (.invokevirtual 296, 3) := dk_182 1 40 (dk_at dksX0_year_4 20 rfl rfl)
theorem dX0_year_116 : decode cX0_year 116 = .ok (.aload_n 0, 1) := dk_42 (dk_at dksX0_year_4 23 rfl rfl)
theorem dX0_year_117 : decode cX0_year 117 = .ok (.getfield 12, 3) := dk_180 0 12 (dk_at dksX0_year_5 0 rfl rfl)
theorem dX0_year_120 : decode cX0_year 120 = .ok (.iload 6, 2) := dk_21 6 (dk_at dksX0_year_5 3 rfl rfl)
theorem dX0_year_122 : decode cX0_year 122 = .ok (.invokevirtual 189, 3) := dk_182 0 189 (dk_at dksX0_year_5 5 rfl rfl)
theorem dX0_year_125 : decode cX0_year 125 = .ok (.irem, 1) := dk_112 (dk_at dksX0_year_5 8 rfl rfl)
theorem dX0_year_126 : decode cX0_year 126 = .ok (.istore 7, 2) := dk_54 7 (dk_at dksX0_year_5 9 rfl rfl)
theorem dX0_year_128 : decode cX0_year 128 = .ok (.aload_n 0, 1) := dk_42 (dk_at dksX0_year_5 11 rfl rfl)
theorem dX0_year_129 : decode cX0_year 129 = .ok (.getfield 12, 3) := dk_180 0 12 (dk_at dksX0_year_5 12 rfl rfl)
theorem dX0_year_132 : decode cX0_year 132 = .ok (.iload 5, 2) := dk_21 5 (dk_at dksX0_year_5 15 rfl rfl)
theorem dX0_year_134 : decode cX0_year 134 = .ok (.invokevirtual 244, 3) := dk_182 0 244 (dk_at dksX0_year_5 17 rfl rfl)
theorem dX0_year_137 : decode cX0_year 137 = .ok (.istore 8, 2) := dk_54 8 (dk_at dksX0_year_5 20 rfl rfl)
theorem dX0_year_139 : decode cX0_year 139 = .ok (.aload_n 0, 1) := dk_42 (dk_at dksX0_year_5 22 rfl rfl)
theorem dX0_year_140 : decode cX0_year 140 = .ok (.getfield 12, 3) := dk_180 0 12 (dk_at dksX0_year_6 0 rfl rfl)
theorem dX0_year_143 : decode cX0_year 143 = .ok (.iload 6, 2) := dk_21 6 (dk_at dksX0_year_6 3 rfl rfl)
theorem dX0_year_145 : decode cX0_year 145 = .ok (.iload 8, 2) := dk_21 8 (dk_at dksX0_year_6 5 rfl rfl)
theorem dX0_year_147 : decode cX0_year 147 = .ok (.invokevirtual 210, 3) := dk_182 0 210 (dk_at dksX0_year_6 7 rfl rfl)
theorem dX0_year_150 : decode cX0_year 150 = .ok (.aload_n 0, 1) := dk_42 (dk_at dksX0_year_6 10 rfl rfl)
theorem dX0_year_151 : decode cX0_year 151 = .ok (.getfield 12, 3) := dk_180 0 12 (dk_at dksX0_year_6 11 rfl rfl)
theorem dX0_year_154 : decode cX0_year 154 = .ok (.iload 6, 2) := dk_21 6 (dk_at dksX0_year_6 14 rfl rfl)
theorem dX0_year_156 : decode cX0_year 156 = .ok (.iload 7, 2) := dk_21 7 (dk_at dksX0_year_6 16 rfl rfl)
theorem dX0_year_158 : decode cX0_year 158 = .ok (.iload 5, 2) := dk_21 5 (dk_at dksX0_year_6 18 rfl rfl)
theorem dX0_year_160 : decode cX0_year 160 = .ok (.invokevirtual 247, 3) := dk_182 0 247 (dk_at dksX0_year_6 20 rfl rfl)
theorem dX0_year_163 : decode cX0_year 163 = .ok (.iload_n 3, 1) := dk_29 (dk_at dksX0_year_6 23 rfl rfl)
theorem dX0_year_164 : decode cX0_year 164 = .ok (.iload 7, 2) := dk_21 7 (dk_at dksX0_year_7 0 rfl rfl)
theorem dX0_year_166 : decode cX0_year 166 = .ok (.iload 8, 2) := dk_21 8 (dk_at dksX0_year_7 2 rfl rfl)
theorem dX0_year_168 : decode cX0_year 168 = .ok (.if_icmp .ne 7, 3) := dk_160 0 7 (dk_at dksX0_year_7 4 rfl rfl)
theorem dX0_year_171 : decode cX0_year 171 = .ok (.iconst 0, 1) := dk_3 (dk_at dksX0_year_7 7 rfl rfl)
theorem dX0_year_172 : decode cX0_year 172 = .ok (.goto 4, 3) := dk_167 0 4 (dk_at dksX0_year_7 8 rfl rfl)
theorem dX0_year_175 : decode cX0_year 175 = .ok (.iconst 1, 1) := dk_4 (dk_at dksX0_year_7 11 rfl rfl)
theorem dX0_year_176 : decode cX0_year 176 = .ok (.iadd, 1) := dk_96 (dk_at dksX0_year_7 12 rfl rfl)
theorem dX0_year_177 : decode cX0_year 177 = .ok (.istore_n 3, 1) := dk_62 (dk_at dksX0_year_7 13 rfl rfl)
theorem dX0_year_178 : decode cX0_year 178 = .ok (.aload_n 0, 1) := dk_42 (dk_at dksX0_year_7 14 rfl rfl)
theorem dX0_year_179 : decode cX0_year 179 = .ok (.invokevirtual 296, 3) := dk_182 1 40 (dk_at dksX0_year_7 15 rfl rfl)
theorem dX0_year_182 : decode cX0_year 182 = .ok (.bipush 10, 2) := dk_16 10 (dk_at dksX0_year_7 18 rfl rfl)
theorem dX0_year_184 : decode cX0_year 184 = .ok (.irem, 1) := dk_112 (dk_at dksX0_year_7 20 rfl rfl)
theorem dX0_year_185 : decode cX0_year 185 = .ok (.iconst 3, 1) := dk_6 (dk_at dksX0_year_7 21 rfl rfl)
theorem dX0_year_186 : decode cX0_year 186 = .ok (.if_icmp .lt 6, 3) := dk_161 0 6 (dk_at dksX0_year_8 0 rfl rfl)
theorem dX0_year_189 : decode cX0_year 189 = .ok (.goto 49, 3) := dk_167 0 49 (dk_at dksX0_year_8 3 rfl rfl)
theorem dX0_year_192 : decode cX0_year 192 = .ok (.aload_n 0, 1) := dk_42 (dk_at dksX0_year_8 6 rfl rfl)
theorem dX0_year_193 : decode cX0_year 193 = .ok (.getfield 12, 3) := dk_180 0 12 (dk_at dksX0_year_8 7 rfl rfl)
theorem dX0_year_196 : decode cX0_year 196 = .ok (.getfield 78, 3) := dk_180 0 78 (dk_at dksX0_year_8 10 rfl rfl)
theorem dX0_year_199 : decode cX0_year 199 = .ok (.bipush 43, 2) := dk_16 43 (dk_at dksX0_year_8 13 rfl rfl)
theorem dX0_year_201 : decode cX0_year 201 = .ok (.iconst 1, 1) := dk_4 (dk_at dksX0_year_8 15 rfl rfl)
theorem dX0_year_202 : decode cX0_year 202 = .ok (.aload_n 0, 1) := dk_42 (dk_at dksX0_year_8 16 rfl rfl)
theorem dX0_year_203 : decode cX0_year 203 = .ok (.getfield 12, 3) := dk_180 0 12 (dk_at dksX0_year_8 17 rfl rfl)
theorem dX0_year_206 : decode cX0_year 206 = .ok (.getfield 78, 3) := dk_180 0 78 (dk_at dksX0_year_8 20 rfl rfl)
theorem dX0_year_209 : decode cX0_year 209 = .ok (.bipush 43, 2) := dk_16 43 (dk_at dksX0_year_9 0 rfl rfl)
theorem dX0_year_211 : decode cX0_year 211 = .ok (.iaload, 1) := dk_46 (dk_at dksX0_year_9 2 rfl rfl)
theorem dX0_year_212 : decode cX0_year 212 = .ok (.isub, 1) := dk_100 (dk_at dksX0_year_9 3 rfl rfl)
theorem dX0_year_213 : decode cX0_year 213 = .ok (.iastore, 1) := dk_79 (dk_at dksX0_year_9 4 rfl rfl)
theorem dX0_year_214 : decode cX0_year 214 = .ok (.aload_n 0, 1) := dk_42 (dk_at dksX0_year_9 5 rfl rfl)
theorem dX0_year_215 : decode cX0_year 215 = .ok (.getfield 12, 3) := dk_180 0 12 (dk_at dksX0_year_9 6 rfl rfl)
theorem dX0_year_218 : decode cX0_year 218 = .ok (.getfield 78, 3) := dk_180 0 78 (dk_at dksX0_year_9 9 rfl rfl)
theorem dX0_year_221 : decode cX0_year 221 = .ok (.bipush 43, 2) := dk_16 43 (dk_at dksX0_year_9 12 rfl rfl)
theorem dX0_year_223 : decode cX0_year 223 = .ok (.iaload, 1) := dk_46 (dk_at dksX0_year_9 14 rfl rfl)
theorem dX0_year_224 : decode cX0_year 224 = .ok (.iconst 1, 1) := dk_4 (dk_at dksX0_year_9 15 rfl rfl)
theorem dX0_year_225 : decode cX0_year 225 = .ok (.if_icmp .ne 10, 3) := dk_160 0 10 (dk_at dksX0_year_9 16 rfl rfl)
theorem dX0_year_228 : decode cX0_year 228 = .ok (.aload_n 0, 1) := dk_42 (dk_at dksX0_year_9 19 rfl rfl)
theorem dX0_year_229 : decode cX0_year 229 = .ok (.invokevirtual 231, 3) := dk_182 0 231 (dk_at dksX0_year_9 20 rfl rfl)
theorem dX0_year_232 : decode cX0_year 232 = .ok (.goto 4, 3) := dk_167 0 4 (dk_at dksX0_year_10 0 rfl rfl)
theorem dX0_year_235 : decode cX0_year 235 = .ok (.iconst 0, 1) := dk_3 (dk_at dksX0_year_10 3 rfl rfl)
theorem dX0_year_236 : decode cX0_year 236 = .ok (.istore 7, 2) := dk_54 7 (dk_at dksX0_year_10 4 rfl rfl)
theorem dX0_year_238 : decode cX0_year 238 = .ok (.iinc 4 1, 3) := dk_132 4 1 (dk_at dksX0_year_10 6 rfl rfl)
theorem dX0_year_241 : decode cX0_year 241 = .ok (.goto (-178), 3) := dk_167 255 78 (dk_at dksX0_year_10 9 rfl rfl)
theorem dX0_year_244 : decode cX0_year 244 = .ok (.iload_n 3, 1) := dk_29 (dk_at dksX0_year_10 12 rfl rfl)
theorem dX0_year_245 : decode cX0_year 245 = .ok (.ireturn, 1) := dk_172 (dk_at dksX0_year_10 13 rfl rfl)
abbrev MX0_year : jjM := (yX0_year, cX0_year, 9, (Option.some Jvm.ClassFile.FieldType.int))
theorem npX0_year : yX0_year.cls ≠ "java/lang/invoke/MethodHandle" ∧ yX0_year.cls ≠ "java/lang/invoke/VarHandle" ∧ (parseMethodDescriptor yX0_year.desc).map (fun d => d.parameters.length) = some 2 := by decide +kernel
