/-! names, code and decode rows of the methods (out of claim/names) -/
set_option maxRecDepth 100000
abbrev cX0_drawn : ByteArray := prog_1_method_39_code
def yX0_drawn : MethodName := ⟨RX0, "drawn", "()I"⟩
def dkwX0_drawn_1 : List UInt8 := [104, 16, 101, 96, 17, 117, 161, 112, 79, 27, 172]
abbrev dktX0_drawn_1 : List UInt8 := dkwX0_drawn_1 ++ []
def dkwX0_drawn_0 : List UInt8 := [42, 180, 0, 12, 180, 0, 78, 16, 45, 46, 60, 42, 180, 0, 12, 180, 0, 78, 16, 45, 27, 17, 0, 179]
abbrev dktX0_drawn_0 : List UInt8 := dkwX0_drawn_0 ++ dktX0_drawn_1
theorem dksX0_drawn_0 : cX0_drawn.data.toList.drop 0 = dktX0_drawn_0 := by decide +kernel
theorem dksX0_drawn_1 : cX0_drawn.data.toList.drop 24 = dktX0_drawn_1 := dk_seg dksX0_drawn_0 24 rfl rfl
theorem dX0_drawn_0 : decode cX0_drawn 0 = .ok (.aload_n 0, 1) := dk_42 (dk_at dksX0_drawn_0 0 rfl rfl)
theorem dX0_drawn_1 : decode cX0_drawn 1 = .ok (.getfield 12, 3) := dk_180 0 12 (dk_at dksX0_drawn_0 1 rfl rfl)
theorem dX0_drawn_4 : decode cX0_drawn 4 = .ok (.getfield 78, 3) := dk_180 0 78 (dk_at dksX0_drawn_0 4 rfl rfl)
theorem dX0_drawn_7 : decode cX0_drawn 7 = .ok (.bipush 45, 2) := dk_16 45 (dk_at dksX0_drawn_0 7 rfl rfl)
theorem dX0_drawn_9 : decode cX0_drawn 9 = .ok (.iaload, 1) := dk_46 (dk_at dksX0_drawn_0 9 rfl rfl)
theorem dX0_drawn_10 : decode cX0_drawn 10 = .ok (.istore_n 1, 1) := dk_60 (dk_at dksX0_drawn_0 10 rfl rfl)
theorem dX0_drawn_11 : decode cX0_drawn 11 = .ok (.aload_n 0, 1) := dk_42 (dk_at dksX0_drawn_0 11 rfl rfl)
theorem dX0_drawn_12 : decode cX0_drawn 12 = .ok (.getfield 12, 3) := dk_180 0 12 (dk_at dksX0_drawn_0 12 rfl rfl)
theorem dX0_drawn_15 : decode cX0_drawn 15 = .ok (.getfield 78, 3) := dk_180 0 78 (dk_at dksX0_drawn_0 15 rfl rfl)
theorem dX0_drawn_18 : decode cX0_drawn 18 = .ok (.bipush 45, 2) := dk_16 45 (dk_at dksX0_drawn_0 18 rfl rfl)
theorem dX0_drawn_20 : decode cX0_drawn 20 = .ok (.iload_n 1, 1) := dk_27 (dk_at dksX0_drawn_0 20 rfl rfl)
theorem dX0_drawn_21 : decode cX0_drawn 21 = .ok (.sipush 179, 3) := dk_17 0 179 (dk_at dksX0_drawn_0 21 rfl rfl)
theorem dX0_drawn_24 : decode cX0_drawn 24 = .ok (.imul, 1) := dk_104 (dk_at dksX0_drawn_1 0 rfl rfl)
theorem dX0_drawn_25 : decode cX0_drawn 25 = .ok (.bipush 101, 2) := dk_16 101 (dk_at dksX0_drawn_1 1 rfl rfl)
theorem dX0_drawn_27 : decode cX0_drawn 27 = .ok (.iadd, 1) := dk_96 (dk_at dksX0_drawn_1 3 rfl rfl)
theorem dX0_drawn_28 : decode cX0_drawn 28 = .ok (.sipush 30113, 3) := dk_17 117 161 (dk_at dksX0_drawn_1 4 rfl rfl)
theorem dX0_drawn_31 : decode cX0_drawn 31 = .ok (.irem, 1) := dk_112 (dk_at dksX0_drawn_1 7 rfl rfl)
theorem dX0_drawn_32 : decode cX0_drawn 32 = .ok (.iastore, 1) := dk_79 (dk_at dksX0_drawn_1 8 rfl rfl)
theorem dX0_drawn_33 : decode cX0_drawn 33 = .ok (.iload_n 1, 1) := dk_27 (dk_at dksX0_drawn_1 9 rfl rfl)
theorem dX0_drawn_34 : decode cX0_drawn 34 = .ok (.ireturn, 1) := dk_172 (dk_at dksX0_drawn_1 10 rfl rfl)
abbrev MX0_drawn : jjM := (yX0_drawn, cX0_drawn, 2, (Option.some Jvm.ClassFile.FieldType.int))
theorem npX0_drawn : yX0_drawn.cls ≠ "java/lang/invoke/MethodHandle" ∧ yX0_drawn.cls ≠ "java/lang/invoke/VarHandle" ∧ (parseMethodDescriptor yX0_drawn.desc).map (fun d => d.parameters.length) = some 0 := by decide +kernel
abbrev cX0_undo : ByteArray := prog_1_method_41_code
def yX0_undo : MethodName := ⟨RX0, "undo", "()I"⟩
def dkwX0_undo_2 : List UInt8 := [180, 0, 78, 184, 0, 99, 42, 180, 0, 12, 180, 0, 71, 7, 46, 172]
abbrev dktX0_undo_2 : List UInt8 := dkwX0_undo_2 ++ []
def dkwX0_undo_1 : List UInt8 := [4, 100, 79, 42, 180, 0, 12, 180, 1, 43, 42, 180, 0, 12, 180, 0, 71, 7, 46, 50, 42, 180, 0, 12]
abbrev dktX0_undo_1 : List UInt8 := dkwX0_undo_1 ++ dktX0_undo_2
def dkwX0_undo_0 : List UInt8 := [42, 180, 0, 12, 180, 0, 71, 7, 46, 154, 0, 5, 2, 172, 42, 180, 0, 12, 180, 0, 71, 7, 92, 46]
abbrev dktX0_undo_0 : List UInt8 := dkwX0_undo_0 ++ dktX0_undo_1
theorem dksX0_undo_0 : cX0_undo.data.toList.drop 0 = dktX0_undo_0 := by decide +kernel
theorem dksX0_undo_1 : cX0_undo.data.toList.drop 24 = dktX0_undo_1 := dk_seg dksX0_undo_0 24 rfl rfl
theorem dksX0_undo_2 : cX0_undo.data.toList.drop 48 = dktX0_undo_2 := dk_seg dksX0_undo_1 24 rfl rfl
theorem dX0_undo_0 : decode cX0_undo 0 = .ok (.aload_n 0, 1) := dk_42 (dk_at dksX0_undo_0 0 rfl rfl)
theorem dX0_undo_1 : decode cX0_undo 1 = .ok (.getfield 12, 3) := dk_180 0 12 (dk_at dksX0_undo_0 1 rfl rfl)
theorem dX0_undo_4 : decode cX0_undo 4 = .ok (.getfield 71, 3) := dk_180 0 71 (dk_at dksX0_undo_0 4 rfl rfl)
theorem dX0_undo_7 : decode cX0_undo 7 = .ok (.iconst 4, 1) := dk_7 (dk_at dksX0_undo_0 7 rfl rfl)
theorem dX0_undo_8 : decode cX0_undo 8 = .ok (.iaload, 1) := dk_46 (dk_at dksX0_undo_0 8 rfl rfl)
theorem dX0_undo_9 : decode cX0_undo 9 = .ok (.ifCond .ne 5, 3) := dk_154 0 5 (dk_at dksX0_undo_0 9 rfl rfl)
theorem dX0_undo_12 : decode cX0_undo 12 = .ok (.iconst (-1), 1) := dk_2 (dk_at dksX0_undo_0 12 rfl rfl)
theorem dX0_undo_13 : decode cX0_undo 13 = .ok (.ireturn, 1) := dk_172 (dk_at dksX0_undo_0 13 rfl rfl)
theorem dX0_undo_14 : decode cX0_undo 14 = .ok (.aload_n 0, 1) := dk_42 (dk_at dksX0_undo_0 14 rfl rfl)
theorem dX0_undo_15 : decode cX0_undo 15 = .ok (.getfield 12, 3) := dk_180 0 12 (dk_at dksX0_undo_0 15 rfl rfl)
theorem dX0_undo_18 : decode cX0_undo 18 = .ok (.getfield 71, 3) := dk_180 0 71 (dk_at dksX0_undo_0 18 rfl rfl)
theorem dX0_undo_21 : decode cX0_undo 21 = .ok (.iconst 4, 1) := dk_7 (dk_at dksX0_undo_0 21 rfl rfl)
theorem dX0_undo_22 : decode cX0_undo 22 = .ok (.dup2, 1) := dk_92 (dk_at dksX0_undo_0 22 rfl rfl)
theorem dX0_undo_23 : decode cX0_undo 23 = .ok (.iaload, 1) := dk_46 (dk_at dksX0_undo_0 23 rfl rfl)
theorem dX0_undo_24 : decode cX0_undo 24 = .ok (.iconst 1, 1) := dk_4 (dk_at dksX0_undo_1 0 rfl rfl)
theorem dX0_undo_25 : decode cX0_undo 25 = .ok (.isub, 1) := dk_100 (dk_at dksX0_undo_1 1 rfl rfl)
theorem dX0_undo_26 : decode cX0_undo 26 = .ok (.iastore, 1) := dk_79 (dk_at dksX0_undo_1 2 rfl rfl)
theorem dX0_undo_27 : decode cX0_undo 27 = .ok (.aload_n 0, 1) := dk_42 (dk_at dksX0_undo_1 3 rfl rfl)
theorem dX0_undo_28 : decode cX0_undo 28 = .ok (.getfield 12, 3) := dk_180 0 12 (dk_at dksX0_undo_1 4 rfl rfl)
theorem dX0_undo_31 : decode cX0_undo 31 = .ok (.getfield 299, 3) := dk_180 1 43 (dk_at dksX0_undo_1 7 rfl rfl)
theorem dX0_undo_34 : decode cX0_undo 34 = .ok (.aload_n 0, 1) := dk_42 (dk_at dksX0_undo_1 10 rfl rfl)
theorem dX0_undo_35 : decode cX0_undo 35 = .ok (.getfield 12, 3) := dk_180 0 12 (dk_at dksX0_undo_1 11 rfl rfl)
theorem dX0_undo_38 : decode cX0_undo 38 = .ok (.getfield 71, 3) := dk_180 0 71 (dk_at dksX0_undo_1 14 rfl rfl)
theorem dX0_undo_41 : decode cX0_undo 41 = .ok (.iconst 4, 1) := dk_7 (dk_at dksX0_undo_1 17 rfl rfl)
theorem dX0_undo_42 : decode cX0_undo 42 = .ok (.iaload, 1) := dk_46 (dk_at dksX0_undo_1 18 rfl rfl)
theorem dX0_undo_43 : decode cX0_undo 43 = .ok (.aaload, 1) := dk_50 (dk_at dksX0_undo_1 19 rfl rfl)
theorem dX0_undo_44 : decode cX0_undo 44 = .ok (.aload_n 0, 1) := dk_42 (dk_at dksX0_undo_1 20 rfl rfl)
theorem dX0_undo_45 : decode cX0_undo 45 = .ok (.getfield 12, 3) := dk_180 0 12 (dk_at dksX0_undo_1 21 rfl rfl)
theorem dX0_undo_48 : decode cX0_undo 48 = .ok (.getfield 78, 3) := dk_180 0 78 (dk_at dksX0_undo_2 0 rfl rfl)
theorem dX0_undo_51 : decode cX0_undo 51 = .ok (.invokestatic 99, 3) := dk_184 0 99 (dk_at dksX0_undo_2 3 rfl rfl)
theorem dX0_undo_54 : decode cX0_undo 54 = .ok (.aload_n 0, 1) := dk_42 (dk_at dksX0_undo_2 6 rfl rfl)
theorem dX0_undo_55 : decode cX0_undo 55 = .ok (.getfield 12, 3) := dk_180 0 12 (dk_at dksX0_undo_2 7 rfl rfl)
theorem dX0_undo_58 : decode cX0_undo 58 = .ok (.getfield 71, 3) := dk_180 0 71 (dk_at dksX0_undo_2 10 rfl rfl)
theorem dX0_undo_61 : decode cX0_undo 61 = .ok (.iconst 4, 1) := dk_7 (dk_at dksX0_undo_2 13 rfl rfl)
theorem dX0_undo_62 : decode cX0_undo 62 = .ok (.iaload, 1) := dk_46 (dk_at dksX0_undo_2 14 rfl rfl)
theorem dX0_undo_63 : decode cX0_undo 63 = .ok (.ireturn, 1) := dk_172 (dk_at dksX0_undo_2 15 rfl rfl)
abbrev MX0_undo : jjM := (yX0_undo, cX0_undo, 1, (Option.some Jvm.ClassFile.FieldType.int))
theorem npX0_undo : yX0_undo.cls ≠ "java/lang/invoke/MethodHandle" ∧ yX0_undo.cls ≠ "java/lang/invoke/VarHandle" ∧ (parseMethodDescriptor yX0_undo.desc).map (fun d => d.parameters.length) = some 0 := by decide +kernel
abbrev cX0_at : ByteArray := prog_1_method_42_code
def yX0_at : MethodName := ⟨RX0, "at", "(II)I"⟩
def dkwX0_at_2 : List UInt8 := [180, 0, 12, 27, 28, 182, 0, 192, 167, 0, 4, 2, 172]
abbrev dktX0_at_2 : List UInt8 := dkwX0_at_2 ++ []
def dkwX0_at_1 : List UInt8 := [167, 0, 34, 28, 3, 42, 180, 0, 12, 27, 182, 0, 189, 4, 100, 184, 0, 74, 153, 0, 15, 42]
abbrev dktX0_at_1 : List UInt8 := dkwX0_at_1 ++ dktX0_at_2
def dkwX0_at_0 : List UInt8 := [27, 184, 0, 87, 154, 0, 7, 2, 167, 0, 50, 28, 2, 160, 0, 14, 42, 180, 0, 12, 27, 182, 0, 189]
abbrev dktX0_at_0 : List UInt8 := dkwX0_at_0 ++ dktX0_at_1
theorem dksX0_at_0 : cX0_at.data.toList.drop 0 = dktX0_at_0 := by decide +kernel
theorem dksX0_at_1 : cX0_at.data.toList.drop 24 = dktX0_at_1 := dk_seg dksX0_at_0 24 rfl rfl
theorem dksX0_at_2 : cX0_at.data.toList.drop 46 = dktX0_at_2 := dk_seg dksX0_at_1 22 rfl rfl
theorem dX0_at_0 : decode cX0_at 0 = .ok (.iload_n 1, 1) := dk_27 (dk_at dksX0_at_0 0 rfl rfl)
theorem dX0_at_1 : decode cX0_at 1 = .ok (.invokestatic 87, 3) := dk_184 0 87 (dk_at dksX0_at_0 1 rfl rfl)
theorem dX0_at_4 : decode cX0_at 4 = .ok (.ifCond .ne 7, 3) := dk_154 0 7 (dk_at dksX0_at_0 4 rfl rfl)
theorem dX0_at_7 : decode cX0_at 7 = .ok (.iconst (-1), 1) := dk_2 (dk_at dksX0_at_0 7 rfl rfl)
theorem dX0_at_8 : decode cX0_at 8 = .ok (.goto 50, 3) := dk_167 0 50 (dk_at dksX0_at_0 8 rfl rfl)
theorem dX0_at_11 : decode cX0_at 11 = .ok (.iload_n 2, 1) := dk_28 (dk_at dksX0_at_0 11 rfl rfl)
theorem dX0_at_12 : decode cX0_at 12 = .ok (.iconst (-1), 1) := dk_2 (dk_at dksX0_at_0 12 rfl rfl)
theorem dX0_at_13 : decode cX0_at 13 = .ok (.if_icmp .ne 14, 3) := dk_160 0 14 (dk_at dksX0_at_0 13 rfl rfl)
theorem dX0_at_16 : decode cX0_at 16 = .ok (.aload_n 0, 1) := dk_42 (dk_at dksX0_at_0 16 rfl rfl)
theorem dX0_at_17 : decode cX0_at 17 = .ok (.getfield 12, 3) := dk_180 0 12 (dk_at dksX0_at_0 17 rfl rfl)
theorem dX0_at_20 : decode cX0_at 20 = .ok (.iload_n 1, 1) := dk_27 (dk_at dksX0_at_0 20 rfl rfl)
theorem dX0_at_21 : decode cX0_at 21 = .ok (.invokevirtual 189, 3) := dk_182 0 189 (dk_at dksX0_at_0 21 rfl rfl)
theorem dX0_at_24 : decode cX0_at 24 = .ok (.goto 34, 3) := dk_167 0 34 (dk_at dksX0_at_1 0 rfl rfl)
theorem dX0_at_27 : decode cX0_at 27 = .ok (.iload_n 2, 1) := dk_28 (dk_at dksX0_at_1 3 rfl rfl)
theorem dX0_at_28 : decode cX0_at 28 = .ok (.iconst 0, 1) := dk_3 (dk_at dksX0_at_1 4 rfl rfl)
theorem dX0_at_29 : decode cX0_at 29 = .ok (.aload_n 0, 1) := dk_42 (dk_at dksX0_at_1 5 rfl rfl)
theorem dX0_at_30 : decode cX0_at 30 = .ok (.getfield 12, 3) := dk_180 0 12 (dk_at dksX0_at_1 6 rfl rfl)
theorem dX0_at_33 : decode cX0_at 33 = .ok (.iload_n 1, 1) := dk_27 (dk_at dksX0_at_1 9 rfl rfl)
theorem dX0_at_34 : decode cX0_at 34 = .ok (.invokevirtual 189, 3) := dk_182 0 189 (dk_at dksX0_at_1 10 rfl rfl)
theorem dX0_at_37 : decode cX0_at 37 = .ok (.iconst 1, 1) := dk_4 (dk_at dksX0_at_1 13 rfl rfl)
theorem dX0_at_38 : decode cX0_at 38 = .ok (.isub, 1) := dk_100 (dk_at dksX0_at_1 14 rfl rfl)
theorem dX0_at_39 : decode cX0_at 39 = .ok (.invokestatic 74, 3) := dk_184 0 74 (dk_at dksX0_at_1 15 rfl rfl)
theorem dX0_at_42 : decode cX0_at 42 = .ok (.ifCond .eq 15, 3) := dk_153 0 15 (dk_at dksX0_at_1 18 rfl rfl)
theorem dX0_at_45 : decode cX0_at 45 = .ok (.aload_n 0, 1) := dk_42 (dk_at dksX0_at_1 21 rfl rfl)
theorem dX0_at_46 : decode cX0_at 46 = .ok (.getfield 12, 3) := dk_180 0 12 (dk_at dksX0_at_2 0 rfl rfl)
theorem dX0_at_49 : decode cX0_at 49 = .ok (.iload_n 1, 1) := dk_27 (dk_at dksX0_at_2 3 rfl rfl)
theorem dX0_at_50 : decode cX0_at 50 = .ok (.iload_n 2, 1) := dk_28 (dk_at dksX0_at_2 4 rfl rfl)
theorem dX0_at_51 : decode cX0_at 51 = .ok (.invokevirtual 192, 3) := dk_182 0 192 (dk_at dksX0_at_2 5 rfl rfl)
theorem dX0_at_54 : decode cX0_at 54 = .ok (.goto 4, 3) := dk_167 0 4 (dk_at dksX0_at_2 8 rfl rfl)
theorem dX0_at_57 : decode cX0_at 57 = .ok (.iconst (-1), 1) := dk_2 (dk_at dksX0_at_2 11 rfl rfl)
theorem dX0_at_58 : decode cX0_at 58 = .ok (.ireturn, 1) := dk_172 (dk_at dksX0_at_2 12 rfl rfl)
abbrev MX0_at : jjM := (yX0_at, cX0_at, 3, (Option.some Jvm.ClassFile.FieldType.int))
theorem npX0_at : yX0_at.cls ≠ "java/lang/invoke/MethodHandle" ∧ yX0_at.cls ≠ "java/lang/invoke/VarHandle" ∧ (parseMethodDescriptor yX0_at.desc).map (fun d => d.parameters.length) = some 2 := by decide +kernel
abbrev cX0_of : ByteArray := prog_1_method_43_code
def yX0_of : MethodName := ⟨RX0, "of", "(II)I"⟩
def dkwX0_of_4 : List UInt8 := [180, 0, 12, 180, 0, 96, 27, 50, 28, 5, 100, 46, 167, 0, 5, 16, 254, 172]
abbrev dktX0_of_4 : List UInt8 := dkwX0_of_4 ++ []
def dkwX0_of_3 : List UInt8 := [167, 0, 4, 2, 172, 42, 27, 182, 0, 196, 172, 28, 5, 16, 6, 184, 0, 74, 153, 0, 19, 42]
abbrev dktX0_of_3 : List UInt8 := dkwX0_of_3 ++ dktX0_of_4
def dkwX0_of_2 : List UInt8 := [42, 27, 182, 0, 83, 172, 42, 27, 182, 1, 46, 153, 0, 14, 42, 180, 0, 12, 27, 182, 0, 244]
abbrev dktX0_of_2 : List UInt8 := dkwX0_of_2 ++ dktX0_of_3
def dkwX0_of_1 : List UInt8 := [171, 0, 0, 0, 0, 0, 0, 69, 0, 0, 0, 3, 0, 0, 0, 0, 0, 0, 0, 36, 0, 0, 0, 1, 0, 0, 0, 42, 0, 0, 0, 7, 0, 0, 0, 63]
abbrev dktX0_of_1 : List UInt8 := dkwX0_of_1 ++ dktX0_of_2
def dkwX0_of_0 : List UInt8 := [42, 27, 182, 0, 79, 154, 0, 6, 16, 254, 172, 28]
abbrev dktX0_of_0 : List UInt8 := dkwX0_of_0 ++ dktX0_of_1
theorem dksX0_of_0 : cX0_of.data.toList.drop 0 = dktX0_of_0 := by decide +kernel
theorem dksX0_of_1 : cX0_of.data.toList.drop 12 = dktX0_of_1 := dk_seg dksX0_of_0 12 rfl rfl
theorem dksX0_of_2 : cX0_of.data.toList.drop 48 = dktX0_of_2 := dk_seg dksX0_of_1 36 rfl rfl
theorem dksX0_of_3 : cX0_of.data.toList.drop 70 = dktX0_of_3 := dk_seg dksX0_of_2 22 rfl rfl
theorem dksX0_of_4 : cX0_of.data.toList.drop 92 = dktX0_of_4 := dk_seg dksX0_of_3 22 rfl rfl
theorem dX0_of_0 : decode cX0_of 0 = .ok (.aload_n 0, 1) := dk_42 (dk_at dksX0_of_0 0 rfl rfl)
theorem dX0_of_1 : decode cX0_of 1 = .ok (.iload_n 1, 1) := dk_27 (dk_at dksX0_of_0 1 rfl rfl)
theorem dX0_of_2 : decode cX0_of 2 = .ok (.invokevirtual 79, 3) := dk_182 0 79 (dk_at dksX0_of_0 2 rfl rfl)
theorem dX0_of_5 : decode cX0_of 5 = .ok (.ifCond .ne 6, 3) := dk_154 0 6 (dk_at dksX0_of_0 5 rfl rfl)
theorem dX0_of_8 : decode cX0_of 8 = .ok (.bipush (-2), 2) := dk_16 254 (dk_at dksX0_of_0 8 rfl rfl)
theorem dX0_of_10 : decode cX0_of 10 = .ok (.ireturn, 1) := dk_172 (dk_at dksX0_of_0 10 rfl rfl)
theorem dX0_of_11 : decode cX0_of 11 = .ok (.iload_n 2, 1) := dk_28 (dk_at dksX0_of_0 11 rfl rfl)
theorem dX0_of_12 : decode cX0_of 12 = .ok (.lookupswitch 69 #[(0, 36), (1, 42), (7, 63)], 36) := by decide +kernel
theorem dX0_of_48 : decode cX0_of 48 = .ok (.aload_n 0, 1) := dk_42 (dk_at dksX0_of_2 0 rfl rfl)
theorem dX0_of_49 : decode cX0_of 49 = .ok (.iload_n 1, 1) := dk_27 (dk_at dksX0_of_2 1 rfl rfl)
theorem dX0_of_50 : decode cX0_of 50 = .ok (.invokevirtual 83, 3) := dk_182 0 83 (dk_at dksX0_of_2 2 rfl rfl)
theorem dX0_of_53 : decode cX0_of 53 = .ok (.ireturn, 1) := dk_172 (dk_at dksX0_of_2 5 rfl rfl)
theorem dX0_of_54 : decode cX0_of 54 = .ok (.aload_n 0, 1) := dk_42 (dk_at dksX0_of_2 6 rfl rfl)
theorem dX0_of_55 : decode cX0_of 55 = .ok (.iload_n 1, 1) := dk_27 (dk_at dksX0_of_2 7 rfl rfl)
theorem dX0_of_56 : decode cX0_of 56 = .ok (.invokevirtual 302, 3) := dk_182 1 46 (dk_at dksX0_of_2 8 rfl rfl)
theorem dX0_of_59 : decode cX0_of 59 = .ok (.ifCond .eq 14, 3) := dk_153 0 14 (dk_at dksX0_of_2 11 rfl rfl)
theorem dX0_of_62 : decode cX0_of 62 = .ok (.aload_n 0, 1) := dk_42 (dk_at dksX0_of_2 14 rfl rfl)
theorem dX0_of_63 : decode cX0_of 63 = .ok (.getfield 12, 3) := dk_180 0 12 (dk_at dksX0_of_2 15 rfl rfl)
theorem dX0_of_66 : decode cX0_of 66 = .ok (.iload_n 1, 1) := dk_27 (dk_at dksX0_of_2 18 rfl rfl)
theorem dX0_of_67 : decode cX0_of 67 = .ok (.invokevirtual 244, 3) := dk_182 0 244 (dk_at dksX0_of_2 19 rfl rfl)
theorem dX0_of_70 : decode cX0_of 70 = .ok (.goto 4, 3) := dk_167 0 4 (dk_at dksX0_of_3 0 rfl rfl)
theorem dX0_of_73 : decode cX0_of 73 = .ok (.iconst (-1), 1) := dk_2 (dk_at dksX0_of_3 3 rfl rfl)
theorem dX0_of_74 : decode cX0_of 74 = .ok (.ireturn, 1) := dk_172 (dk_at dksX0_of_3 4 rfl rfl)
theorem dX0_of_75 : decode cX0_of 75 = .ok (.aload_n 0, 1) := dk_42 (dk_at dksX0_of_3 5 rfl rfl)
theorem dX0_of_76 : decode cX0_of 76 = .ok (.iload_n 1, 1) := dk_27 (dk_at dksX0_of_3 6 rfl rfl)
theorem dX0_of_77 : decode cX0_of 77 = .ok (.invokevirtual 196, 3) := dk_182 0 196 (dk_at dksX0_of_3 7 rfl rfl)
theorem dX0_of_80 : decode cX0_of 80 = .ok (.ireturn, 1) := dk_172 (dk_at dksX0_of_3 10 rfl rfl)
theorem dX0_of_81 : decode cX0_of 81 = .ok (.iload_n 2, 1) := dk_28 (dk_at dksX0_of_3 11 rfl rfl)
theorem dX0_of_82 : decode cX0_of 82 = .ok (.iconst 2, 1) := dk_5 (dk_at dksX0_of_3 12 rfl rfl)
theorem dX0_of_83 : decode cX0_of 83 = .ok (.bipush 6, 2) := dk_16 6 (dk_at dksX0_of_3 13 rfl rfl)
theorem dX0_of_85 : decode cX0_of 85 = .ok (.invokestatic 74, 3) := dk_184 0 74 (dk_at dksX0_of_3 15 rfl rfl)
theorem dX0_of_88 : decode cX0_of 88 = .ok (.ifCond .eq 19, 3) := dk_153 0 19 (dk_at dksX0_of_3 18 rfl rfl)
theorem dX0_of_91 : decode cX0_of 91 = .ok (.aload_n 0, 1) := dk_42 (dk_at dksX0_of_3 21 rfl rfl)
theorem dX0_of_92 : decode cX0_of 92 = .ok (.getfield 12, 3) := dk_180 0 12 (dk_at dksX0_of_4 0 rfl rfl)
theorem dX0_of_95 : decode cX0_of 95 = .ok (.getfield 96, 3) := dk_180 0 96 (dk_at dksX0_of_4 3 rfl rfl)
theorem dX0_of_98 : decode cX0_of 98 = .ok (.iload_n 1, 1) := dk_27 (dk_at dksX0_of_4 6 rfl rfl)
theorem dX0_of_99 : decode cX0_of 99 = .ok (.aaload, 1) := dk_50 (dk_at dksX0_of_4 7 rfl rfl)
theorem dX0_of_100 : decode cX0_of 100 = .ok (.iload_n 2, 1) := dk_28 (dk_at dksX0_of_4 8 rfl rfl)
theorem dX0_of_101 : decode cX0_of 101 = .ok (.iconst 2, 1) := dk_5 (dk_at dksX0_of_4 9 rfl rfl)
theorem dX0_of_102 : decode cX0_of 102 = .ok (.isub, 1) := dk_100 (dk_at dksX0_of_4 10 rfl rfl)
theorem dX0_of_103 : decode cX0_of 103 = .ok (.iaload, 1) := dk_46 (dk_at dksX0_of_4 11 rfl rfl)
theorem dX0_of_104 : decode cX0_of 104 = .ok (.goto 5, 3) := dk_167 0 5 (dk_at dksX0_of_4 12 rfl rfl)
theorem dX0_of_107 : decode cX0_of 107 = .ok (.bipush (-2), 2) := dk_16 254 (dk_at dksX0_of_4 15 rfl rfl)
theorem dX0_of_109 : decode cX0_of 109 = .ok (.ireturn, 1) := dk_172 (dk_at dksX0_of_4 17 rfl rfl)
abbrev MX0_of : jjM := (yX0_of, cX0_of, 3, (Option.some Jvm.ClassFile.FieldType.int))
theorem npX0_of : yX0_of.cls ≠ "java/lang/invoke/MethodHandle" ∧ yX0_of.cls ≠ "java/lang/invoke/VarHandle" ∧ (parseMethodDescriptor yX0_of.desc).map (fun d => d.parameters.length) = some 2 := by decide +kernel
abbrev cX0_isOnShelf : ByteArray := prog_1_method_6_code
def yX0_isOnShelf : MethodName := ⟨RX0, "isOnShelf", "(I)Z"⟩
def dkwX0_isOnShelf_0 : List UInt8 := [42, 27, 182, 0, 79, 153, 0, 16, 42, 27, 182, 0, 83, 6, 162, 0, 7, 4, 167, 0, 4, 3, 172]
abbrev dktX0_isOnShelf_0 : List UInt8 := dkwX0_isOnShelf_0 ++ []
theorem dksX0_isOnShelf_0 : cX0_isOnShelf.data.toList.drop 0 = dktX0_isOnShelf_0 := by decide +kernel
theorem dX0_isOnShelf_0 : decode cX0_isOnShelf 0 = .ok (.aload_n 0, 1) := dk_42 (dk_at dksX0_isOnShelf_0 0 rfl rfl)
theorem dX0_isOnShelf_1 : decode cX0_isOnShelf 1 = .ok (.iload_n 1, 1) := dk_27 (dk_at dksX0_isOnShelf_0 1 rfl rfl)
theorem dX0_isOnShelf_2 : decode cX0_isOnShelf 2 = .ok (.invokevirtual 79, 3) := dk_182 0 79 (dk_at dksX0_isOnShelf_0 2 rfl rfl)
theorem dX0_isOnShelf_5 : decode cX0_isOnShelf 5 = .ok (.ifCond .eq 16, 3) := dk_153 0 16 (dk_at dksX0_isOnShelf_0 5 rfl rfl)
theorem dX0_isOnShelf_8 : decode cX0_isOnShelf 8 = .ok (.aload_n 0, 1) := dk_42 (dk_at dksX0_isOnShelf_0 8 rfl rfl)
theorem dX0_isOnShelf_9 : decode cX0_isOnShelf 9 = .ok (.iload_n 1, 1) := dk_27 (dk_at dksX0_isOnShelf_0 9 rfl rfl)
theorem dX0_isOnShelf_10 : decode cX0_isOnShelf 10 = .ok (.invokevirtual 83, 3) := dk_182 0 83 (dk_at dksX0_isOnShelf_0 10 rfl rfl)
theorem dX0_isOnShelf_13 : decode cX0_isOnShelf 13 = .ok (.iconst 3, 1) := dk_6 (dk_at dksX0_isOnShelf_0 13 rfl rfl)
theorem dX0_isOnShelf_14 : decode cX0_isOnShelf 14 = .ok (.if_icmp .ge 7, 3) := dk_162 0 7 (dk_at dksX0_isOnShelf_0 14 rfl rfl)
theorem dX0_isOnShelf_17 : decode cX0_isOnShelf 17 = .ok (.iconst 1, 1) := dk_4 (dk_at dksX0_isOnShelf_0 17 rfl rfl)
theorem dX0_isOnShelf_18 : decode cX0_isOnShelf 18 = .ok (.goto 4, 3) := dk_167 0 4 (dk_at dksX0_isOnShelf_0 18 rfl rfl)
theorem dX0_isOnShelf_21 : decode cX0_isOnShelf 21 = .ok (.iconst 0, 1) := dk_3 (dk_at dksX0_isOnShelf_0 21 rfl rfl)
theorem dX0_isOnShelf_22 : decode cX0_isOnShelf 22 = .ok (.ireturn, 1) := dk_172 (dk_at dksX0_isOnShelf_0 22 rfl rfl)
abbrev MX0_isOnShelf : jjM := (yX0_isOnShelf, cX0_isOnShelf, 2, (Option.some Jvm.ClassFile.FieldType.boolean))
theorem npX0_isOnShelf : yX0_isOnShelf.cls ≠ "java/lang/invoke/MethodHandle" ∧ yX0_isOnShelf.cls ≠ "java/lang/invoke/VarHandle" ∧ (parseMethodDescriptor yX0_isOnShelf.desc).map (fun d => d.parameters.length) = some 1 := by decide +kernel
abbrev cX0_shelf : ByteArray := prog_1_method_44_code
def yX0_shelf : MethodName := ⟨RX0, "shelf", "(II)I"⟩
def dkwX0_shelf_1 : List UInt8 := [167, 0, 17, 28, 4, 160, 0, 11, 42, 27, 182, 0, 90, 167, 0, 4, 2, 172]
abbrev dktX0_shelf_1 : List UInt8 := dkwX0_shelf_1 ++ []
def dkwX0_shelf_0 : List UInt8 := [27, 184, 0, 87, 154, 0, 7, 2, 167, 0, 33, 28, 154, 0, 15, 42, 180, 0, 12, 180, 0, 93, 27, 46]
abbrev dktX0_shelf_0 : List UInt8 := dkwX0_shelf_0 ++ dktX0_shelf_1
theorem dksX0_shelf_0 : cX0_shelf.data.toList.drop 0 = dktX0_shelf_0 := by decide +kernel
theorem dksX0_shelf_1 : cX0_shelf.data.toList.drop 24 = dktX0_shelf_1 := dk_seg dksX0_shelf_0 24 rfl rfl
theorem dX0_shelf_0 : decode cX0_shelf 0 = .ok (.iload_n 1, 1) := dk_27 (dk_at dksX0_shelf_0 0 rfl rfl)
theorem dX0_shelf_1 : decode cX0_shelf 1 = .ok (.invokestatic 87, 3) := dk_184 0 87 (dk_at dksX0_shelf_0 1 rfl rfl)
theorem dX0_shelf_4 : decode cX0_shelf 4 = .ok (.ifCond .ne 7, 3) := dk_154 0 7 (dk_at dksX0_shelf_0 4 rfl rfl)
theorem dX0_shelf_7 : decode cX0_shelf 7 = .ok (.iconst (-1), 1) := dk_2 (dk_at dksX0_shelf_0 7 rfl rfl)
theorem dX0_shelf_8 : decode cX0_shelf 8 = .ok (.goto 33, 3) := dk_167 0 33 (dk_at dksX0_shelf_0 8 rfl rfl)
theorem dX0_shelf_11 : decode cX0_shelf 11 = .ok (.iload_n 2, 1) := dk_28 (dk_at dksX0_shelf_0 11 rfl rfl)
theorem dX0_shelf_12 : decode cX0_shelf 12 = .ok (.ifCond .ne 15, 3) := dk_154 0 15 (dk_at dksX0_shelf_0 12 rfl rfl)
theorem dX0_shelf_15 : decode cX0_shelf 15 = .ok (.aload_n 0, 1) := dk_42 (dk_at dksX0_shelf_0 15 rfl rfl)
theorem dX0_shelf_16 : decode cX0_shelf 16 = .ok (.getfield 12, 3) := dk_180 0 12 (dk_at dksX0_shelf_0 16 rfl rfl)
theorem dX0_shelf_19 : decode cX0_shelf 19 = .ok (.getfield 93, 3) := dk_180 0 93 (dk_at dksX0_shelf_0 19 rfl rfl)
theorem dX0_shelf_22 : decode cX0_shelf 22 = .ok (.iload_n 1, 1) := dk_27 (dk_at dksX0_shelf_0 22 rfl rfl)
theorem dX0_shelf_23 : decode cX0_shelf 23 = .ok (.iaload, 1) := dk_46 (dk_at dksX0_shelf_0 23 rfl rfl)
theorem dX0_shelf_24 : decode cX0_shelf 24 = .ok (.goto 17, 3) := dk_167 0 17 (dk_at dksX0_shelf_1 0 rfl rfl)
theorem dX0_shelf_27 : decode cX0_shelf 27 = .ok (.iload_n 2, 1) := dk_28 (dk_at dksX0_shelf_1 3 rfl rfl)
theorem dX0_shelf_28 : decode cX0_shelf 28 = .ok (.iconst 1, 1) := dk_4 (dk_at dksX0_shelf_1 4 rfl rfl)
theorem dX0_shelf_29 : decode cX0_shelf 29 = .ok (.if_icmp .ne 11, 3) := dk_160 0 11 (dk_at dksX0_shelf_1 5 rfl rfl)
theorem dX0_shelf_32 : decode cX0_shelf 32 = .ok (.aload_n 0, 1) := dk_42 (dk_at dksX0_shelf_1 8 rfl rfl)
theorem dX0_shelf_33 : decode cX0_shelf 33 = .ok (.iload_n 1, 1) := dk_27 (dk_at dksX0_shelf_1 9 rfl rfl)
theorem dX0_shelf_34 : decode cX0_shelf 34 = .ok (.invokevirtual 90, 3) := dk_182 0 90 (dk_at dksX0_shelf_1 10 rfl rfl)
theorem dX0_shelf_37 : decode cX0_shelf 37 = .ok (.goto 4, 3) := dk_167 0 4 (dk_at dksX0_shelf_1 13 rfl rfl)
theorem dX0_shelf_40 : decode cX0_shelf 40 = .ok (.iconst (-1), 1) := dk_2 (dk_at dksX0_shelf_1 16 rfl rfl)
theorem dX0_shelf_41 : decode cX0_shelf 41 = .ok (.ireturn, 1) := dk_172 (dk_at dksX0_shelf_1 17 rfl rfl)
abbrev MX0_shelf : jjM := (yX0_shelf, cX0_shelf, 3, (Option.some Jvm.ClassFile.FieldType.int))
theorem npX0_shelf : yX0_shelf.cls ≠ "java/lang/invoke/MethodHandle" ∧ yX0_shelf.cls ≠ "java/lang/invoke/VarHandle" ∧ (parseMethodDescriptor yX0_shelf.desc).map (fun d => d.parameters.length) = some 2 := by decide +kernel
abbrev cX0_written : ByteArray := prog_1_method_45_code
def yX0_written : MethodName := ⟨RX0, "written", "(II)I"⟩
def dkwX0_written_2 : List UInt8 := [180, 0, 12, 180, 0, 78, 16, 47, 7, 27, 104, 96, 28, 96, 46, 167, 0, 5, 16, 254, 172]
abbrev dktX0_written_2 : List UInt8 := dkwX0_written_2 ++ []
def dkwX0_written_1 : List UInt8 := [180, 0, 78, 16, 46, 46, 4, 100, 184, 0, 74, 153, 0, 31, 28, 3, 6, 184, 0, 74, 153, 0, 22, 42]
abbrev dktX0_written_1 : List UInt8 := dkwX0_written_1 ++ dktX0_written_2
def dkwX0_written_0 : List UInt8 := [27, 2, 160, 0, 14, 42, 180, 0, 12, 180, 0, 78, 16, 46, 46, 172, 27, 3, 42, 180, 0, 12]
abbrev dktX0_written_0 : List UInt8 := dkwX0_written_0 ++ dktX0_written_1
theorem dksX0_written_0 : cX0_written.data.toList.drop 0 = dktX0_written_0 := by decide +kernel
theorem dksX0_written_1 : cX0_written.data.toList.drop 22 = dktX0_written_1 := dk_seg dksX0_written_0 22 rfl rfl
theorem dksX0_written_2 : cX0_written.data.toList.drop 46 = dktX0_written_2 := dk_seg dksX0_written_1 24 rfl rfl
theorem dX0_written_0 : decode cX0_written 0 = .ok (.iload_n 1, 1) := dk_27 (dk_at dksX0_written_0 0 rfl rfl)
theorem dX0_written_1 : decode cX0_written 1 = .ok (.iconst (-1), 1) := dk_2 (dk_at dksX0_written_0 1 rfl rfl)
theorem dX0_written_2 : decode cX0_written 2 = .ok (.if_icmp .ne 14, 3) := dk_160 0 14 (dk_at dksX0_written_0 2 rfl rfl)
theorem dX0_written_5 : decode cX0_written 5 = .ok (.aload_n 0, 1) := dk_42 (dk_at dksX0_written_0 5 rfl rfl)
theorem dX0_written_6 : decode cX0_written 6 = .ok (.getfield 12, 3) := dk_180 0 12 (dk_at dksX0_written_0 6 rfl rfl)
theorem dX0_written_9 : decode cX0_written 9 = .ok (.getfield 78, 3) := dk_180 0 78 (dk_at dksX0_written_0 9 rfl rfl)
theorem dX0_written_12 : decode cX0_written 12 = .ok (.bipush 46, 2) := dk_16 46 (dk_at dksX0_written_0 12 rfl rfl)
theorem dX0_written_14 : decode cX0_written 14 = .ok (.iaload, 1) := dk_46 (dk_at dksX0_written_0 14 rfl rfl)
theorem dX0_written_15 : decode cX0_written 15 = .ok (.ireturn, 1) := dk_172 (dk_at dksX0_written_0 15 rfl rfl)
theorem dX0_written_16 : decode cX0_written 16 = .ok (.iload_n 1, 1) := dk_27 (dk_at dksX0_written_0 16 rfl rfl)
theorem dX0_written_17 : decode cX0_written 17 = .ok (.iconst 0, 1) := dk_3 (dk_at dksX0_written_0 17 rfl rfl)
theorem dX0_written_18 : decode cX0_written 18 = .ok (.aload_n 0, 1) := dk_42 (dk_at dksX0_written_0 18 rfl rfl)
theorem dX0_written_19 : decode cX0_written 19 = .ok (.getfield 12, 3) := dk_180 0 12 (dk_at dksX0_written_0 19 rfl rfl)
theorem dX0_written_22 : decode cX0_written 22 = .ok (.getfield 78, 3) := dk_180 0 78 (dk_at dksX0_written_1 0 rfl rfl)
theorem dX0_written_25 : decode cX0_written 25 = .ok (.bipush 46, 2) := dk_16 46 (dk_at dksX0_written_1 3 rfl rfl)
theorem dX0_written_27 : decode cX0_written 27 = .ok (.iaload, 1) := dk_46 (dk_at dksX0_written_1 5 rfl rfl)
theorem dX0_written_28 : decode cX0_written 28 = .ok (.iconst 1, 1) := dk_4 (dk_at dksX0_written_1 6 rfl rfl)
theorem dX0_written_29 : decode cX0_written 29 = .ok (.isub, 1) := dk_100 (dk_at dksX0_written_1 7 rfl rfl)
theorem dX0_written_30 : decode cX0_written 30 = .ok (.invokestatic 74, 3) := dk_184 0 74 (dk_at dksX0_written_1 8 rfl rfl)
theorem dX0_written_33 : decode cX0_written 33 = .ok (.ifCond .eq 31, 3) := dk_153 0 31 (dk_at dksX0_written_1 11 rfl rfl)
theorem dX0_written_36 : decode cX0_written 36 = .ok (.iload_n 2, 1) := dk_28 (dk_at dksX0_written_1 14 rfl rfl)
theorem dX0_written_37 : decode cX0_written 37 = .ok (.iconst 0, 1) := dk_3 (dk_at dksX0_written_1 15 rfl rfl)
theorem dX0_written_38 : decode cX0_written 38 = .ok (.iconst 3, 1) := dk_6 (dk_at dksX0_written_1 16 rfl rfl)
theorem dX0_written_39 : decode cX0_written 39 = .ok (.invokestatic 74, 3) := dk_184 0 74 (dk_at dksX0_written_1 17 rfl rfl)
theorem dX0_written_42 : decode cX0_written 42 = .ok (.ifCond .eq 22, 3) := dk_153 0 22 (dk_at dksX0_written_1 20 rfl rfl)
theorem dX0_written_45 : decode cX0_written 45 = .ok (.aload_n 0, 1) := dk_42 (dk_at dksX0_written_1 23 rfl rfl)
theorem dX0_written_46 : decode cX0_written 46 = .ok (.getfield 12, 3) := dk_180 0 12 (dk_at dksX0_written_2 0 rfl rfl)
theorem dX0_written_49 : decode cX0_written 49 = .ok (.getfield 78, 3) := dk_180 0 78 (dk_at dksX0_written_2 3 rfl rfl)
theorem dX0_written_52 : decode cX0_written 52 = .ok (.bipush 47, 2) := dk_16 47 (dk_at dksX0_written_2 6 rfl rfl)
theorem dX0_written_54 : decode cX0_written 54 = .ok (.iconst 4, 1) := dk_7 (dk_at dksX0_written_2 8 rfl rfl)
theorem dX0_written_55 : decode cX0_written 55 = .ok (.iload_n 1, 1) := dk_27 (dk_at dksX0_written_2 9 rfl rfl)
theorem dX0_written_56 : decode cX0_written 56 = .ok (.imul, 1) := dk_104 (dk_at dksX0_written_2 10 rfl rfl)
theorem dX0_written_57 : decode cX0_written 57 = .ok (.iadd, 1) := dk_96 (dk_at dksX0_written_2 11 rfl rfl)
theorem dX0_written_58 : decode cX0_written 58 = .ok (.iload_n 2, 1) := dk_28 (dk_at dksX0_written_2 12 rfl rfl)
theorem dX0_written_59 : decode cX0_written 59 = .ok (.iadd, 1) := dk_96 (dk_at dksX0_written_2 13 rfl rfl)
theorem dX0_written_60 : decode cX0_written 60 = .ok (.iaload, 1) := dk_46 (dk_at dksX0_written_2 14 rfl rfl)
theorem dX0_written_61 : decode cX0_written 61 = .ok (.goto 5, 3) := dk_167 0 5 (dk_at dksX0_written_2 15 rfl rfl)
theorem dX0_written_64 : decode cX0_written 64 = .ok (.bipush (-2), 2) := dk_16 254 (dk_at dksX0_written_2 18 rfl rfl)
theorem dX0_written_66 : decode cX0_written 66 = .ok (.ireturn, 1) := dk_172 (dk_at dksX0_written_2 20 rfl rfl)
abbrev MX0_written : jjM := (yX0_written, cX0_written, 3, (Option.some Jvm.ClassFile.FieldType.int))
theorem npX0_written : yX0_written.cls ≠ "java/lang/invoke/MethodHandle" ∧ yX0_written.cls ≠ "java/lang/invoke/VarHandle" ∧ (parseMethodDescriptor yX0_written.desc).map (fun d => d.parameters.length) = some 2 := by decide +kernel
abbrev cX0_rest : ByteArray := prog_1_method_49_code
def yX0_rest : MethodName := ⟨RX0, "rest", "(I)I"⟩
def dkwX0_rest_0 : List UInt8 := [27, 184, 0, 87, 154, 0, 5, 2, 172, 42, 182, 0, 235, 42, 27, 2, 182, 1, 57, 42, 182, 1, 60, 172]
abbrev dktX0_rest_0 : List UInt8 := dkwX0_rest_0 ++ []
theorem dksX0_rest_0 : cX0_rest.data.toList.drop 0 = dktX0_rest_0 := by decide +kernel
theorem dX0_rest_0 : decode cX0_rest 0 = .ok (.iload_n 1, 1) := dk_27 (dk_at dksX0_rest_0 0 rfl rfl)
theorem dX0_rest_1 : decode cX0_rest 1 = .ok (.invokestatic 87, 3) := dk_184 0 87 (dk_at dksX0_rest_0 1 rfl rfl)
theorem dX0_rest_4 : decode cX0_rest 4 = .ok (.ifCond .ne 5, 3) := dk_154 0 5 (dk_at dksX0_rest_0 4 rfl rfl)
theorem dX0_rest_7 : decode cX0_rest 7 = .ok (.iconst (-1), 1) := dk_2 (dk_at dksX0_rest_0 7 rfl rfl)
theorem dX0_rest_8 : decode cX0_rest 8 = .ok (.ireturn, 1) := dk_172 (dk_at dksX0_rest_0 8 rfl rfl)
theorem dX0_rest_9 : decode cX0_rest 9 = .ok (.aload_n 0, 1) := dk_42 (dk_at dksX0_rest_0 9 rfl rfl)
theorem dX0_rest_10 : decode cX0_rest 10 = .ok (.invokevirtual 235, 3) := dk_182 0 235 (dk_at dksX0_rest_0 10 rfl rfl)
theorem dX0_rest_13 : decode cX0_rest 13 = .ok (.aload_n 0, 1) := dk_42 (dk_at dksX0_rest_0 13 rfl rfl)
theorem dX0_rest_14 : decode cX0_rest 14 = .ok (.iload_n 1, 1) := dk_27 (dk_at dksX0_rest_0 14 rfl rfl)
theorem dX0_rest_15 : decode cX0_rest 15 = .ok (.iconst (-1), 1) := dk_2 (dk_at dksX0_rest_0 15 rfl rfl)
theorem dX0_rest_16 : decode cX0_rest 16 = .ok (.invokevirtual 313, 3) := dk_182 1 57 (dk_at dksX0_rest_0 16 rfl rfl)
theorem dX0_rest_19 : decode cX0_rest 19 = .ok (.aload_n 0, 1) := dk_42 (dk_at dksX0_rest_0 19 rfl rfl)
theorem dX0_rest_20 : decode cX0_rest 20 = .ok (.invokevirtual 316, 3) := dk_182 1 60 (dk_at dksX0_rest_0 20 rfl rfl)
theorem dX0_rest_23 : decode cX0_rest 23 = .ok (.ireturn, 1) := dk_172 (dk_at dksX0_rest_0 23 rfl rfl)
abbrev MX0_rest : jjM := (yX0_rest, cX0_rest, 2, (Option.some Jvm.ClassFile.FieldType.int))
theorem npX0_rest : yX0_rest.cls ≠ "java/lang/invoke/MethodHandle" ∧ yX0_rest.cls ≠ "java/lang/invoke/VarHandle" ∧ (parseMethodDescriptor yX0_rest.desc).map (fun d => d.parameters.length) = some 1 := by decide +kernel
abbrev cX0_laysRow : ByteArray := prog_1_method_46_code
def yX0_laysRow : MethodName := ⟨RX0, "laysRow", "(II)V"⟩
def dkwX0_laysRow_2 : List UInt8 := [29, 182, 0, 192, 79, 42, 89, 180, 1, 49, 4, 96, 181, 1, 49, 132, 3, 1, 167, 255, 197, 177]
abbrev dktX0_laysRow_2 : List UInt8 := dkwX0_laysRow_2 ++ []
def dkwX0_laysRow_1 : List UInt8 := [29, 182, 0, 192, 28, 160, 0, 6, 167, 0, 31, 42, 180, 0, 37, 42, 180, 1, 49, 42, 180, 0, 12, 27]
abbrev dktX0_laysRow_1 : List UInt8 := dkwX0_laysRow_1 ++ dktX0_laysRow_2
def dkwX0_laysRow_0 : List UInt8 := [42, 3, 181, 1, 49, 3, 62, 29, 42, 180, 0, 12, 27, 182, 0, 189, 162, 0, 53, 42, 180, 0, 12, 27]
abbrev dktX0_laysRow_0 : List UInt8 := dkwX0_laysRow_0 ++ dktX0_laysRow_1
theorem dksX0_laysRow_0 : cX0_laysRow.data.toList.drop 0 = dktX0_laysRow_0 := by decide +kernel
theorem dksX0_laysRow_1 : cX0_laysRow.data.toList.drop 24 = dktX0_laysRow_1 := dk_seg dksX0_laysRow_0 24 rfl rfl
theorem dksX0_laysRow_2 : cX0_laysRow.data.toList.drop 48 = dktX0_laysRow_2 := dk_seg dksX0_laysRow_1 24 rfl rfl
theorem dX0_laysRow_0 : decode cX0_laysRow 0 = .ok (.aload_n 0, 1) := dk_42 (dk_at dksX0_laysRow_0 0 rfl rfl)
theorem dX0_laysRow_1 : decode cX0_laysRow 1 = .ok (.iconst 0, 1) := dk_3 (dk_at dksX0_laysRow_0 1 rfl rfl)
theorem dX0_laysRow_2 : decode cX0_laysRow 2 = .ok (.putfield 305, 3) := dk_181 1 49 (dk_at dksX0_laysRow_0 2 rfl rfl)
theorem dX0_laysRow_5 : decode cX0_laysRow 5 = .ok (.iconst 0, 1) := dk_3 (dk_at dksX0_laysRow_0 5 rfl rfl)
theorem dX0_laysRow_6 : decode cX0_laysRow 6 = .ok (.istore_n 3, 1) := dk_62 (dk_at dksX0_laysRow_0 6 rfl rfl)
theorem dX0_laysRow_7 : decode cX0_laysRow 7 = .ok (.iload_n 3, 1) := dk_29 (dk_at dksX0_laysRow_0 7 rfl rfl)
theorem dX0_laysRow_8 : decode cX0_laysRow 8 = .ok (.aload_n 0, 1) := dk_42 (dk_at dksX0_laysRow_0 8 rfl rfl)
theorem dX0_laysRow_9 : decode cX0_laysRow 9 = .ok (.getfield 12, 3) := dk_180 0 12 (dk_at dksX0_laysRow_0 9 rfl rfl)
theorem dX0_laysRow_12 : decode cX0_laysRow 12 = .ok (.iload_n 1, 1) := dk_27 (dk_at dksX0_laysRow_0 12 rfl rfl)
theorem dX0_laysRow_13 : decode cX0_laysRow 13 = .ok (.invokevirtual 189, 3) := dk_182 0 189 (dk_at dksX0_laysRow_0 13 rfl rfl)
theorem dX0_laysRow_16 : decode cX0_laysRow 16 = .ok (.if_icmp .ge 53, 3) := dk_162 0 53 (dk_at dksX0_laysRow_0 16 rfl rfl)
theorem dX0_laysRow_19 : decode cX0_laysRow 19 = .ok (.aload_n 0, 1) := dk_42 (dk_at dksX0_laysRow_0 19 rfl rfl)
theorem dX0_laysRow_20 : decode cX0_laysRow 20 = .ok (.getfield 12, 3) := dk_180 0 12 (dk_at dksX0_laysRow_0 20 rfl rfl)
theorem dX0_laysRow_23 : decode cX0_laysRow 23 = .ok (.iload_n 1, 1) := dk_27 (dk_at dksX0_laysRow_0 23 rfl rfl)
theorem dX0_laysRow_24 : decode cX0_laysRow 24 = .ok (.iload_n 3, 1) := dk_29 (dk_at dksX0_laysRow_1 0 rfl rfl)
theorem dX0_laysRow_25 : decode cX0_laysRow 25 = .ok (.invokevirtual 192, 3) := dk_182 0 192 (dk_at dksX0_laysRow_1 1 rfl rfl)
theorem dX0_laysRow_28 : decode cX0_laysRow 28 = .ok (.iload_n 2, 1) := dk_28 (dk_at dksX0_laysRow_1 4 rfl rfl)
theorem dX0_laysRow_29 : decode cX0_laysRow 29 = .ok (.if_icmp .ne 6, 3) := dk_160 0 6 (dk_at dksX0_laysRow_1 5 rfl rfl)
theorem dX0_laysRow_32 : decode cX0_laysRow 32 = .ok (.goto 31, 3) := dk_167 0 31 (dk_at dksX0_laysRow_1 8 rfl rfl)
theorem dX0_laysRow_35 : decode cX0_laysRow 35 = .ok (.aload_n 0, 1) := dk_42 (dk_at dksX0_laysRow_1 11 rfl rfl)
theorem dX0_laysRow_36 : decode cX0_laysRow 36 = .ok (.getfield 37, 3) := dk_180 0 37 (dk_at dksX0_laysRow_1 12 rfl rfl)
theorem dX0_laysRow_39 : decode cX0_laysRow 39 = .ok (.aload_n 0, 1) := dk_42 (dk_at dksX0_laysRow_1 15 rfl rfl)
theorem dX0_laysRow_40 : decode cX0_laysRow 40 = .ok (.getfield 305, 3) := dk_180 1 49 (dk_at dksX0_laysRow_1 16 rfl rfl)
theorem dX0_laysRow_43 : decode cX0_laysRow 43 = .ok (.aload_n 0, 1) := dk_42 (dk_at dksX0_laysRow_1 19 rfl rfl)
theorem dX0_laysRow_44 : decode cX0_laysRow 44 = .ok (.getfield 12, 3) := dk_180 0 12 (dk_at dksX0_laysRow_1 20 rfl rfl)
theorem dX0_laysRow_47 : decode cX0_laysRow 47 = .ok (.iload_n 1, 1) := dk_27 (dk_at dksX0_laysRow_1 23 rfl rfl)
theorem dX0_laysRow_48 : decode cX0_laysRow 48 = .ok (.iload_n 3, 1) := dk_29 (dk_at dksX0_laysRow_2 0 rfl rfl)
theorem dX0_laysRow_49 : decode cX0_laysRow 49 = .ok (.invokevirtual 192, 3) := dk_182 0 192 (dk_at dksX0_laysRow_2 1 rfl rfl)
theorem dX0_laysRow_52 : decode cX0_laysRow 52 = .ok (.iastore, 1) := dk_79 (dk_at dksX0_laysRow_2 4 rfl rfl)
theorem dX0_laysRow_53 : decode cX0_laysRow 53 = .ok (.aload_n 0, 1) := dk_42 (dk_at dksX0_laysRow_2 5 rfl rfl)
theorem dX0_laysRow_54 : decode cX0_laysRow 54 = .ok (.dup, 1) := dk_89 (dk_at dksX0_laysRow_2 6 rfl rfl)
theorem dX0_laysRow_55 : decode cX0_laysRow 55 = .ok (.getfield 305, 3) := dk_180 1 49 (dk_at dksX0_laysRow_2 7 rfl rfl)
theorem dX0_laysRow_58 : decode cX0_laysRow 58 = .ok (.iconst 1, 1) := dk_4 (dk_at dksX0_laysRow_2 10 rfl rfl)
theorem dX0_laysRow_59 : decode cX0_laysRow 59 = .ok (.iadd, 1) := dk_96 (dk_at dksX0_laysRow_2 11 rfl rfl)
theorem dX0_laysRow_60 : decode cX0_laysRow 60 = .ok (.putfield 305, 3) := dk_181 1 49 (dk_at dksX0_laysRow_2 12 rfl rfl)
theorem dX0_laysRow_63 : decode cX0_laysRow 63 = .ok (.iinc 3 1, 3) := dk_132 3 1 (dk_at dksX0_laysRow_2 15 rfl rfl)
theorem dX0_laysRow_66 : decode cX0_laysRow 66 = .ok (.goto (-59), 3) := dk_167 255 197 (dk_at dksX0_laysRow_2 18 rfl rfl)
theorem dX0_laysRow_69 : decode cX0_laysRow 69 = .ok (.return_, 1) := dk_177 (dk_at dksX0_laysRow_2 21 rfl rfl)
abbrev MX0_laysRow : jjM := (yX0_laysRow, cX0_laysRow, 4, (Option.none : Option Jvm.ClassFile.FieldType))
theorem npX0_laysRow : yX0_laysRow.cls ≠ "java/lang/invoke/MethodHandle" ∧ yX0_laysRow.cls ≠ "java/lang/invoke/VarHandle" ∧ (parseMethodDescriptor yX0_laysRow.desc).map (fun d => d.parameters.length) = some 2 := by decide +kernel
abbrev cX0_rests : ByteArray := prog_1_method_48_code
def yX0_rests : MethodName := ⟨RX0, "rests", "()I"⟩
def dkwX0_rests_2 : List UInt8 := [5, 112, 182, 0, 227, 61, 132, 1, 1, 167, 255, 201, 2, 172]
abbrev dktX0_rests_2 : List UInt8 := dkwX0_rests_2 ++ []
def dkwX0_rests_1 : List UInt8 := [27, 172, 42, 42, 180, 0, 37, 3, 42, 180, 1, 49, 42, 180, 0, 12, 180, 0, 78, 16, 44, 46, 27, 96]
abbrev dktX0_rests_1 : List UInt8 := dkwX0_rests_1 ++ dktX0_rests_2
def dkwX0_rests_0 : List UInt8 := [3, 60, 27, 17, 1, 244, 163, 0, 54, 42, 42, 180, 0, 37, 42, 180, 1, 49, 182, 1, 53, 153, 0, 5]
abbrev dktX0_rests_0 : List UInt8 := dkwX0_rests_0 ++ dktX0_rests_1
theorem dksX0_rests_0 : cX0_rests.data.toList.drop 0 = dktX0_rests_0 := by decide +kernel
theorem dksX0_rests_1 : cX0_rests.data.toList.drop 24 = dktX0_rests_1 := dk_seg dksX0_rests_0 24 rfl rfl
theorem dksX0_rests_2 : cX0_rests.data.toList.drop 48 = dktX0_rests_2 := dk_seg dksX0_rests_1 24 rfl rfl
theorem dX0_rests_0 : decode cX0_rests 0 = .ok (.iconst 0, 1) := dk_3 (dk_at dksX0_rests_0 0 rfl rfl)
theorem dX0_rests_1 : decode cX0_rests 1 = .ok (.istore_n 1, 1) := dk_60 (dk_at dksX0_rests_0 1 rfl rfl)
theorem dX0_rests_2 : decode cX0_rests 2 = .ok (.iload_n 1, 1) := dk_27 (dk_at dksX0_rests_0 2 rfl rfl)
theorem dX0_rests_3 : decode cX0_rests 3 = .ok (.sipush 500, 3) := dk_17 1 244 (dk_at dksX0_rests_0 3 rfl rfl)
theorem dX0_rests_6 : decode cX0_rests 6 = .ok (.if_icmp .gt 54, 3) := dk_163 0 54 (dk_at dksX0_rests_0 6 rfl rfl)
theorem dX0_rests_9 : decode cX0_rests 9 = .ok (.aload_n 0, 1) := dk_42 (dk_at dksX0_rests_0 9 rfl rfl)
theorem dX0_rests_10 : decode cX0_rests 10 = .ok (.aload_n 0, 1) := dk_42 (dk_at dksX0_rests_0 10 rfl rfl)
theorem dX0_rests_11 : decode cX0_rests 11 = .ok (.getfield 37, 3) := dk_180 0 37 (dk_at dksX0_rests_0 11 rfl rfl)
theorem dX0_rests_14 : decode cX0_rests 14 = .ok (.aload_n 0, 1) := dk_42 (dk_at dksX0_rests_0 14 rfl rfl)
theorem dX0_rests_15 : decode cX0_rests 15 = .ok (.getfield 305, 3) := dk_180 1 49 (dk_at dksX0_rests_0 15 rfl rfl)
theorem dX0_rests_18 : decode cX0_rests 18 = .ok (.invokevirtual 309, 3) := dk_182 1 53 (dk_at dksX0_rests_0 18 rfl rfl)
theorem dX0_rests_21 : decode cX0_rests 21 = .ok (.ifCond .eq 5, 3) := dk_153 0 5 (dk_at dksX0_rests_0 21 rfl rfl)
theorem dX0_rests_24 : decode cX0_rests 24 = .ok (.iload_n 1, 1) := dk_27 (dk_at dksX0_rests_1 0 rfl rfl)
theorem dX0_rests_25 : decode cX0_rests 25 = .ok (.ireturn, 1) := dk_172 (dk_at dksX0_rests_1 1 rfl rfl)
theorem dX0_rests_26 : decode cX0_rests 26 = .ok (.aload_n 0, 1) := dk_42 (dk_at dksX0_rests_1 2 rfl rfl)
theorem dX0_rests_27 : decode cX0_rests 27 = .ok (.aload_n 0, 1) := dk_42 (dk_at dksX0_rests_1 3 rfl rfl)
theorem dX0_rests_28 : decode cX0_rests 28 = .ok (.getfield 37, 3) := dk_180 0 37 (dk_at dksX0_rests_1 4 rfl rfl)
theorem dX0_rests_31 : decode cX0_rests 31 = .ok (.iconst 0, 1) := dk_3 (dk_at dksX0_rests_1 7 rfl rfl)
theorem dX0_rests_32 : decode cX0_rests 32 = .ok (.aload_n 0, 1) := dk_42 (dk_at dksX0_rests_1 8 rfl rfl)
theorem dX0_rests_33 : decode cX0_rests 33 = .ok (.getfield 305, 3) := dk_180 1 49 (dk_at dksX0_rests_1 9 rfl rfl)
theorem dX0_rests_36 : decode cX0_rests 36 = .ok (.aload_n 0, 1) := dk_42 (dk_at dksX0_rests_1 12 rfl rfl)
theorem dX0_rests_37 : decode cX0_rests 37 = .ok (.getfield 12, 3) := dk_180 0 12 (dk_at dksX0_rests_1 13 rfl rfl)
theorem dX0_rests_40 : decode cX0_rests 40 = .ok (.getfield 78, 3) := dk_180 0 78 (dk_at dksX0_rests_1 16 rfl rfl)
theorem dX0_rests_43 : decode cX0_rests 43 = .ok (.bipush 44, 2) := dk_16 44 (dk_at dksX0_rests_1 19 rfl rfl)
theorem dX0_rests_45 : decode cX0_rests 45 = .ok (.iaload, 1) := dk_46 (dk_at dksX0_rests_1 21 rfl rfl)
theorem dX0_rests_46 : decode cX0_rests 46 = .ok (.iload_n 1, 1) := dk_27 (dk_at dksX0_rests_1 22 rfl rfl)
theorem dX0_rests_47 : decode cX0_rests 47 = .ok (.iadd, 1) := dk_96 (dk_at dksX0_rests_1 23 rfl rfl)
theorem dX0_rests_48 : decode cX0_rests 48 = .ok (.iconst 2, 1) := dk_5 (dk_at dksX0_rests_2 0 rfl rfl)
theorem dX0_rests_49 : decode cX0_rests 49 = .ok (.irem, 1) := dk_112 (dk_at dksX0_rests_2 1 rfl rfl)
theorem dX0_rests_50 : decode cX0_rests 50 = .ok (.invokevirtual 227, 3) := dk_182 0 227 (dk_at dksX0_rests_2 2 rfl rfl)
theorem dX0_rests_53 : decode cX0_rests 53 = .ok (.istore_n 2, 1) := dk_61 (dk_at dksX0_rests_2 5 rfl rfl)
theorem dX0_rests_54 : decode cX0_rests 54 = .ok (.iinc 1 1, 3) := dk_132 1 1 (dk_at dksX0_rests_2 6 rfl rfl)
theorem dX0_rests_57 : decode cX0_rests 57 = .ok (.goto (-55), 3) := dk_167 255 201 (dk_at dksX0_rests_2 9 rfl rfl)
theorem dX0_rests_60 : decode cX0_rests 60 = .ok (.iconst (-1), 1) := dk_2 (dk_at dksX0_rests_2 12 rfl rfl)
theorem dX0_rests_61 : decode cX0_rests 61 = .ok (.ireturn, 1) := dk_172 (dk_at dksX0_rests_2 13 rfl rfl)
abbrev MX0_rests : jjM := (yX0_rests, cX0_rests, 3, (Option.some Jvm.ClassFile.FieldType.int))
theorem npX0_rests : yX0_rests.cls ≠ "java/lang/invoke/MethodHandle" ∧ yX0_rests.cls ≠ "java/lang/invoke/VarHandle" ∧ (parseMethodDescriptor yX0_rests.desc).map (fun d => d.parameters.length) = some 0 := by decide +kernel
abbrev cX0_isCalm : ByteArray := prog_1_method_28_code
def yX0_isCalm : MethodName := ⟨RX0, "isCalm", "([II)Z"⟩
def dkwX0_isCalm_1 : List UInt8 := [3, 172, 132, 3, 1, 167, 255, 229, 4, 172]
abbrev dktX0_isCalm_1 : List UInt8 := dkwX0_isCalm_1 ++ []
def dkwX0_isCalm_0 : List UInt8 := [3, 62, 29, 4, 96, 28, 162, 0, 26, 42, 43, 29, 46, 43, 29, 4, 96, 46, 182, 0, 206, 153, 0, 5]
abbrev dktX0_isCalm_0 : List UInt8 := dkwX0_isCalm_0 ++ dktX0_isCalm_1
theorem dksX0_isCalm_0 : cX0_isCalm.data.toList.drop 0 = dktX0_isCalm_0 := by decide +kernel
theorem dksX0_isCalm_1 : cX0_isCalm.data.toList.drop 24 = dktX0_isCalm_1 := dk_seg dksX0_isCalm_0 24 rfl rfl
theorem dX0_isCalm_0 : decode cX0_isCalm 0 = .ok (.iconst 0, 1) := dk_3 (dk_at dksX0_isCalm_0 0 rfl rfl)
theorem dX0_isCalm_1 : decode cX0_isCalm 1 = .ok (.istore_n 3, 1) := dk_62 (dk_at dksX0_isCalm_0 1 rfl rfl)
theorem dX0_isCalm_2 : decode cX0_isCalm 2 = .ok (.iload_n 3, 1) := dk_29 (dk_at dksX0_isCalm_0 2 rfl rfl)
theorem dX0_isCalm_3 : decode cX0_isCalm 3 = .ok (.iconst 1, 1) := dk_4 (dk_at dksX0_isCalm_0 3 rfl rfl)
theorem dX0_isCalm_4 : decode cX0_isCalm 4 = .ok (.iadd, 1) := dk_96 (dk_at dksX0_isCalm_0 4 rfl rfl)
theorem dX0_isCalm_5 : decode cX0_isCalm 5 = .ok (.iload_n 2, 1) := dk_28 (dk_at dksX0_isCalm_0 5 rfl rfl)
theorem dX0_isCalm_6 : decode cX0_isCalm 6 = .ok (.if_icmp .ge 26, 3) := dk_162 0 26 (dk_at dksX0_isCalm_0 6 rfl rfl)
theorem dX0_isCalm_9 : decode cX0_isCalm 9 = .ok (.aload_n 0, 1) := dk_42 (dk_at dksX0_isCalm_0 9 rfl rfl)
theorem dX0_isCalm_10 : decode cX0_isCalm 10 = .ok (.aload_n 1, 1) := dk_43 (dk_at dksX0_isCalm_0 10 rfl rfl)
theorem dX0_isCalm_11 : decode cX0_isCalm 11 = .ok (.iload_n 3, 1) := dk_29 (dk_at dksX0_isCalm_0 11 rfl rfl)
theorem dX0_isCalm_12 : decode cX0_isCalm 12 = .ok (.iaload, 1) := dk_46 (dk_at dksX0_isCalm_0 12 rfl rfl)
theorem dX0_isCalm_13 : decode cX0_isCalm 13 = .ok (.aload_n 1, 1) := dk_43 (dk_at dksX0_isCalm_0 13 rfl rfl)
theorem dX0_isCalm_14 : decode cX0_isCalm 14 = .ok (.iload_n 3, 1) := dk_29 (dk_at dksX0_isCalm_0 14 rfl rfl)
theorem dX0_isCalm_15 : decode cX0_isCalm 15 = .ok (.iconst 1, 1) := dk_4 (dk_at dksX0_isCalm_0 15 rfl rfl)
theorem dX0_isCalm_16 : decode cX0_isCalm 16 = .ok (.iadd, 1) := dk_96 (dk_at dksX0_isCalm_0 16 rfl rfl)
theorem dX0_isCalm_17 : decode cX0_isCalm 17 = .ok (.iaload, 1) := dk_46 (dk_at dksX0_isCalm_0 17 rfl rfl)
theorem dX0_isCalm_18 : decode cX0_isCalm 18 = .ok (.invokevirtual 206, 3) := dk_182 0 206 (dk_at dksX0_isCalm_0 18 rfl rfl)
theorem dX0_isCalm_21 : decode cX0_isCalm 21 = .ok (.ifCond .eq 5, 3) := dk_153 0 5 (dk_at dksX0_isCalm_0 21 rfl rfl)
theorem dX0_isCalm_24 : decode cX0_isCalm 24 = .ok (.iconst 0, 1) := dk_3 (dk_at dksX0_isCalm_1 0 rfl rfl)
theorem dX0_isCalm_25 : decode cX0_isCalm 25 = .ok (.ireturn, 1) := dk_172 (dk_at dksX0_isCalm_1 1 rfl rfl)
theorem dX0_isCalm_26 : decode cX0_isCalm 26 = .ok (.iinc 3 1, 3) := dk_132 3 1 (dk_at dksX0_isCalm_1 2 rfl rfl)
theorem dX0_isCalm_29 : decode cX0_isCalm 29 = .ok (.goto (-27), 3) := dk_167 255 229 (dk_at dksX0_isCalm_1 5 rfl rfl)
theorem dX0_isCalm_32 : decode cX0_isCalm 32 = .ok (.iconst 1, 1) := dk_4 (dk_at dksX0_isCalm_1 8 rfl rfl)
theorem dX0_isCalm_33 : decode cX0_isCalm 33 = .ok (.ireturn, 1) := dk_172 (dk_at dksX0_isCalm_1 9 rfl rfl)
abbrev MX0_isCalm : jjM := (yX0_isCalm, cX0_isCalm, 4, (Option.some Jvm.ClassFile.FieldType.boolean))
theorem npX0_isCalm : yX0_isCalm.cls ≠ "java/lang/invoke/MethodHandle" ∧ yX0_isCalm.cls ≠ "java/lang/invoke/VarHandle" ∧ (parseMethodDescriptor yX0_isCalm.desc).map (fun d => d.parameters.length) = some 2 := by decide +kernel
abbrev cX0_round : ByteArray := prog_1_method_50_code
def yX0_round : MethodName := ⟨RX0, "round", "(IZ)I"⟩
def dkwX0_round_5 : List UInt8 := [16, 44, 46, 29, 96, 5, 112, 182, 0, 227, 54, 4, 132, 3, 1, 167, 255, 149, 2, 172]
abbrev dktX0_round_5 : List UInt8 := dkwX0_round_5 ++ []
def dkwX0_round_4 : List UInt8 := [132, 4, 1, 167, 255, 216, 42, 42, 180, 0, 37, 3, 42, 180, 1, 49, 42, 180, 0, 12, 180, 0, 78]
abbrev dktX0_round_4 : List UInt8 := dkwX0_round_4 ++ dktX0_round_5
def dkwX0_round_3 : List UInt8 := [180, 0, 40, 29, 47, 148, 154, 0, 17, 28, 153, 0, 10, 29, 21, 4, 100, 167, 0, 5, 21, 4, 172]
abbrev dktX0_round_3 : List UInt8 := dkwX0_round_3 ++ dktX0_round_4
def dkwX0_round_2 : List UInt8 := [46, 29, 96, 182, 1, 66, 80, 3, 54, 4, 21, 4, 29, 162, 0, 40, 42, 180, 0, 40, 21, 4, 47, 42]
abbrev dktX0_round_2 : List UInt8 := dkwX0_round_2 ++ dktX0_round_3
def dkwX0_round_1 : List UInt8 := [3, 62, 29, 17, 1, 244, 163, 0, 106, 42, 180, 0, 40, 29, 42, 42, 180, 0, 12, 180, 0, 78, 16, 44]
abbrev dktX0_round_1 : List UInt8 := dkwX0_round_1 ++ dktX0_round_2
def dkwX0_round_0 : List UInt8 := [42, 27, 182, 1, 63, 2, 160, 0, 10, 27, 184, 0, 87, 154, 0, 5, 2, 172, 42, 27, 2, 182, 1, 57]
abbrev dktX0_round_0 : List UInt8 := dkwX0_round_0 ++ dktX0_round_1
theorem dksX0_round_0 : cX0_round.data.toList.drop 0 = dktX0_round_0 := by decide +kernel
theorem dksX0_round_1 : cX0_round.data.toList.drop 24 = dktX0_round_1 := dk_seg dksX0_round_0 24 rfl rfl
theorem dksX0_round_2 : cX0_round.data.toList.drop 48 = dktX0_round_2 := dk_seg dksX0_round_1 24 rfl rfl
theorem dksX0_round_3 : cX0_round.data.toList.drop 72 = dktX0_round_3 := dk_seg dksX0_round_2 24 rfl rfl
theorem dksX0_round_4 : cX0_round.data.toList.drop 95 = dktX0_round_4 := dk_seg dksX0_round_3 23 rfl rfl
theorem dksX0_round_5 : cX0_round.data.toList.drop 118 = dktX0_round_5 := dk_seg dksX0_round_4 23 rfl rfl
theorem dX0_round_0 : decode cX0_round 0 = .ok (.aload_n 0, 1) := dk_42 (dk_at dksX0_round_0 0 rfl rfl)
theorem dX0_round_1 : decode cX0_round 1 = .ok (.iload_n 1, 1) := dk_27 (dk_at dksX0_round_0 1 rfl rfl)
theorem dX0_round_2 : decode cX0_round 2 = .ok (.invokevirtual 319, 3) := dk_182 1 63 (dk_at dksX0_round_0 2 rfl rfl)
theorem dX0_round_5 : decode cX0_round 5 = .ok (.iconst (-1), 1) := dk_2 (dk_at dksX0_round_0 5 rfl rfl)
theorem dX0_round_6 : decode cX0_round 6 = .ok (.if_icmp .ne 10, 3) := dk_160 0 10 (dk_at dksX0_round_0 6 rfl rfl)
theorem dX0_round_9 : decode cX0_round 9 = .ok (.iload_n 1, 1) := dk_27 (dk_at dksX0_round_0 9 rfl rfl)
theorem dX0_round_10 : decode cX0_round 10 = .ok (.invokestatic 87, 3) := dk_184 0 87 (dk_at dksX0_round_0 10 rfl rfl)
theorem dX0_round_13 : decode cX0_round 13 = .ok (.ifCond .ne 5, 3) := dk_154 0 5 (dk_at dksX0_round_0 13 rfl rfl)
theorem dX0_round_16 : decode cX0_round 16 = .ok (.iconst (-1), 1) := dk_2 (dk_at dksX0_round_0 16 rfl rfl)
theorem dX0_round_17 : decode cX0_round 17 = .ok (.ireturn, 1) := dk_172 (dk_at dksX0_round_0 17 rfl rfl)
theorem dX0_round_18 : decode cX0_round 18 = .ok (.aload_n 0, 1) := dk_42 (dk_at dksX0_round_0 18 rfl rfl)
theorem dX0_round_19 : decode cX0_round 19 = .ok (.iload_n 1, 1) := dk_27 (dk_at dksX0_round_0 19 rfl rfl)
theorem dX0_round_20 : decode cX0_round 20 = .ok (.iconst (-1), 1) := dk_2 (dk_at dksX0_round_0 20 rfl rfl)
theorem dX0_round_21 : decode cX0_round 21 = .ok (.invokevirtual 313, 3) := dk_182 1 57 (dk_at dksX0_round_0 21 rfl rfl)
theorem dX0_round_24 : decode cX0_round 24 = .ok (.iconst 0, 1) := dk_3 (dk_at dksX0_round_1 0 rfl rfl)
theorem dX0_round_25 : decode cX0_round 25 = .ok (.istore_n 3, 1) := dk_62 (dk_at dksX0_round_1 1 rfl rfl)
theorem dX0_round_26 : decode cX0_round 26 = .ok (.iload_n 3, 1) := dk_29 (dk_at dksX0_round_1 2 rfl rfl)
theorem dX0_round_27 : decode cX0_round 27 = .ok (.sipush 500, 3) := dk_17 1 244 (dk_at dksX0_round_1 3 rfl rfl)
theorem dX0_round_30 : decode cX0_round 30 = .ok (.if_icmp .gt 106, 3) := dk_163 0 106 (dk_at dksX0_round_1 6 rfl rfl)
theorem dX0_round_33 : decode cX0_round 33 = .ok (.aload_n 0, 1) := dk_42 (dk_at dksX0_round_1 9 rfl rfl)
theorem dX0_round_34 : decode cX0_round 34 = .ok (.getfield 40, 3) := dk_180 0 40 (dk_at dksX0_round_1 10 rfl rfl)
theorem dX0_round_37 : decode cX0_round 37 = .ok (.iload_n 3, 1) := dk_29 (dk_at dksX0_round_1 13 rfl rfl)
theorem dX0_round_38 : decode cX0_round 38 = .ok (.aload_n 0, 1) := dk_42 (dk_at dksX0_round_1 14 rfl rfl)
theorem dX0_round_39 : decode cX0_round 39 = .ok (.aload_n 0, 1) := dk_42 (dk_at dksX0_round_1 15 rfl rfl)
theorem dX0_round_40 : decode cX0_round 40 = .ok (.getfield 12, 3) := dk_180 0 12 (dk_at dksX0_round_1 16 rfl rfl)
theorem dX0_round_43 : decode cX0_round 43 = .ok (.getfield 78, 3) := dk_180 0 78 (dk_at dksX0_round_1 19 rfl rfl)
theorem dX0_round_46 : decode cX0_round 46 = .ok (.bipush 44, 2) := dk_16 44 (dk_at dksX0_round_1 22 rfl rfl)
theorem dX0_round_48 : decode cX0_round 48 = .ok (.iaload, 1) := dk_46 (dk_at dksX0_round_2 0 rfl rfl)
theorem dX0_round_49 : decode cX0_round 49 = .ok (.iload_n 3, 1) := dk_29 (dk_at dksX0_round_2 1 rfl rfl)
theorem dX0_round_50 : decode cX0_round 50 = .ok (.iadd, 1) := dk_96 (dk_at dksX0_round_2 2 rfl rfl)
theorem dX0_round_51 : decode cX0_round 51 = .ok (.invokevirtual 322, 3) := dk_182 1 66 (dk_at dksX0_round_2 3 rfl rfl)
theorem dX0_round_54 : decode cX0_round 54 = .ok (.lastore, 1) := dk_80 (dk_at dksX0_round_2 6 rfl rfl)
theorem dX0_round_55 : decode cX0_round 55 = .ok (.iconst 0, 1) := dk_3 (dk_at dksX0_round_2 7 rfl rfl)
theorem dX0_round_56 : decode cX0_round 56 = .ok (.istore 4, 2) := dk_54 4 (dk_at dksX0_round_2 8 rfl rfl)
theorem dX0_round_58 : decode cX0_round 58 = .ok (.iload 4, 2) := dk_21 4 (dk_at dksX0_round_2 10 rfl rfl)
theorem dX0_round_60 : decode cX0_round 60 = .ok (.iload_n 3, 1) := dk_29 (dk_at dksX0_round_2 12 rfl rfl)
theorem dX0_round_61 : decode cX0_round 61 = .ok (.if_icmp .ge 40, 3) := dk_162 0 40 (dk_at dksX0_round_2 13 rfl rfl)
theorem dX0_round_64 : decode cX0_round 64 = .ok (.aload_n 0, 1) := dk_42 (dk_at dksX0_round_2 16 rfl rfl)
theorem dX0_round_65 : decode cX0_round 65 = .ok (.getfield 40, 3) := dk_180 0 40 (dk_at dksX0_round_2 17 rfl rfl)
theorem dX0_round_68 : decode cX0_round 68 = .ok (.iload 4, 2) := dk_21 4 (dk_at dksX0_round_2 20 rfl rfl)
theorem dX0_round_70 : decode cX0_round 70 = .ok (.laload, 1) := dk_47 (dk_at dksX0_round_2 22 rfl rfl)
theorem dX0_round_71 : decode cX0_round 71 = .ok (.aload_n 0, 1) := dk_42 (dk_at dksX0_round_2 23 rfl rfl)
theorem dX0_round_72 : decode cX0_round 72 = .ok (.getfield 40, 3) := dk_180 0 40 (dk_at dksX0_round_3 0 rfl rfl)
theorem dX0_round_75 : decode cX0_round 75 = .ok (.iload_n 3, 1) := dk_29 (dk_at dksX0_round_3 3 rfl rfl)
theorem dX0_round_76 : decode cX0_round 76 = .ok (.laload, 1) := dk_47 (dk_at dksX0_round_3 4 rfl rfl)
theorem dX0_round_77 : decode cX0_round 77 = .ok (.lcmp, 1) := dk_148 (dk_at dksX0_round_3 5 rfl rfl)
theorem dX0_round_78 : decode cX0_round 78 = .ok (.ifCond .ne 17, 3) := dk_154 0 17 (dk_at dksX0_round_3 6 rfl rfl)
theorem dX0_round_81 : decode cX0_round 81 = .ok (.iload_n 2, 1) := dk_28 (dk_at dksX0_round_3 9 rfl rfl)
theorem dX0_round_82 : decode cX0_round 82 = .ok (.ifCond .eq 10, 3) := dk_153 0 10 (dk_at dksX0_round_3 10 rfl rfl)
theorem dX0_round_85 : decode cX0_round 85 = .ok (.iload_n 3, 1) := dk_29 (dk_at dksX0_round_3 13 rfl rfl)
theorem dX0_round_86 : decode cX0_round 86 = .ok (.iload 4, 2) := dk_21 4 (dk_at dksX0_round_3 14 rfl rfl)
theorem dX0_round_88 : decode cX0_round 88 = .ok (.isub, 1) := dk_100 (dk_at dksX0_round_3 16 rfl rfl)
theorem dX0_round_89 : decode cX0_round 89 = .ok (.goto 5, 3) := dk_167 0 5 (dk_at dksX0_round_3 17 rfl rfl)
theorem dX0_round_92 : decode cX0_round 92 = .ok (.iload 4, 2) := dk_21 4 (dk_at dksX0_round_3 20 rfl rfl)
theorem dX0_round_94 : decode cX0_round 94 = .ok (.ireturn, 1) := dk_172 (dk_at dksX0_round_3 22 rfl rfl)
theorem dX0_round_95 : decode cX0_round 95 = .ok (.iinc 4 1, 3) := dk_132 4 1 (dk_at dksX0_round_4 0 rfl rfl)
theorem dX0_round_98 : decode cX0_round 98 = .ok (.goto (-40), 3) := dk_167 255 216 (dk_at dksX0_round_4 3 rfl rfl)
theorem dX0_round_101 : decode cX0_round 101 = .ok (.aload_n 0, 1) := dk_42 (dk_at dksX0_round_4 6 rfl rfl)
theorem dX0_round_102 : decode cX0_round 102 = .ok (.aload_n 0, 1) := dk_42 (dk_at dksX0_round_4 7 rfl rfl)
theorem dX0_round_103 : decode cX0_round 103 = .ok (.getfield 37, 3) := dk_180 0 37 (dk_at dksX0_round_4 8 rfl rfl)
theorem dX0_round_106 : decode cX0_round 106 = .ok (.iconst 0, 1) := dk_3 (dk_at dksX0_round_4 11 rfl rfl)
theorem dX0_round_107 : decode cX0_round 107 = .ok (.aload_n 0, 1) := dk_42 (dk_at dksX0_round_4 12 rfl rfl)
theorem dX0_round_108 : decode cX0_round 108 = .ok (.getfield 305, 3) := dk_180 1 49 (dk_at dksX0_round_4 13 rfl rfl)
theorem dX0_round_111 : decode cX0_round 111 = .ok (.aload_n 0, 1) := dk_42 (dk_at dksX0_round_4 16 rfl rfl)
theorem dX0_round_112 : decode cX0_round 112 = .ok (.getfield 12, 3) := dk_180 0 12 (dk_at dksX0_round_4 17 rfl rfl)
theorem dX0_round_115 : decode cX0_round 115 = .ok (.getfield 78, 3) := dk_180 0 78 (dk_at dksX0_round_4 20 rfl rfl)
theorem dX0_round_118 : decode cX0_round 118 = .ok (.bipush 44, 2) := dk_16 44 (dk_at dksX0_round_5 0 rfl rfl)
theorem dX0_round_120 : decode cX0_round 120 = .ok (.iaload, 1) := dk_46 (dk_at dksX0_round_5 2 rfl rfl)
theorem dX0_round_121 : decode cX0_round 121 = .ok (.iload_n 3, 1) := dk_29 (dk_at dksX0_round_5 3 rfl rfl)
theorem dX0_round_122 : decode cX0_round 122 = .ok (.iadd, 1) := dk_96 (dk_at dksX0_round_5 4 rfl rfl)
theorem dX0_round_123 : decode cX0_round 123 = .ok (.iconst 2, 1) := dk_5 (dk_at dksX0_round_5 5 rfl rfl)
theorem dX0_round_124 : decode cX0_round 124 = .ok (.irem, 1) := dk_112 (dk_at dksX0_round_5 6 rfl rfl)
theorem dX0_round_125 : decode cX0_round 125 = .ok (.invokevirtual 227, 3) := dk_182 0 227 (dk_at dksX0_round_5 7 rfl rfl)
theorem dX0_round_128 : decode cX0_round 128 = .ok (.istore 4, 2) := dk_54 4 (dk_at dksX0_round_5 10 rfl rfl)
theorem dX0_round_130 : decode cX0_round 130 = .ok (.iinc 3 1, 3) := dk_132 3 1 (dk_at dksX0_round_5 12 rfl rfl)
theorem dX0_round_133 : decode cX0_round 133 = .ok (.goto (-107), 3) := dk_167 255 149 (dk_at dksX0_round_5 15 rfl rfl)
theorem dX0_round_136 : decode cX0_round 136 = .ok (.iconst (-1), 1) := dk_2 (dk_at dksX0_round_5 18 rfl rfl)
theorem dX0_round_137 : decode cX0_round 137 = .ok (.ireturn, 1) := dk_172 (dk_at dksX0_round_5 19 rfl rfl)
abbrev MX0_round : jjM := (yX0_round, cX0_round, 5, (Option.some Jvm.ClassFile.FieldType.int))
theorem npX0_round : yX0_round.cls ≠ "java/lang/invoke/MethodHandle" ∧ yX0_round.cls ≠ "java/lang/invoke/VarHandle" ∧ (parseMethodDescriptor yX0_round.desc).map (fun d => d.parameters.length) = some 2 := by decide +kernel
abbrev cX0_standing : ByteArray := prog_1_method_47_code
def yX0_standing : MethodName := ⟨RX0, "standing", "(I)J"⟩
def dkwX0_standing_1 : List UInt8 := [180, 0, 37, 21, 4, 46, 133, 97, 65, 132, 4, 1, 167, 255, 229, 32, 173]
abbrev dktX0_standing_1 : List UInt8 := dkwX0_standing_1 ++ []
def dkwX0_standing_0 : List UInt8 := [27, 5, 112, 133, 65, 3, 54, 4, 21, 4, 42, 180, 1, 49, 162, 0, 24, 20, 1, 51, 32, 105, 42]
abbrev dktX0_standing_0 : List UInt8 := dkwX0_standing_0 ++ dktX0_standing_1
theorem dksX0_standing_0 : cX0_standing.data.toList.drop 0 = dktX0_standing_0 := by decide +kernel
theorem dksX0_standing_1 : cX0_standing.data.toList.drop 23 = dktX0_standing_1 := dk_seg dksX0_standing_0 23 rfl rfl
theorem dX0_standing_0 : decode cX0_standing 0 = .ok (.iload_n 1, 1) := dk_27 (dk_at dksX0_standing_0 0 rfl rfl)
theorem dX0_standing_1 : decode cX0_standing 1 = .ok (.iconst 2, 1) := dk_5 (dk_at dksX0_standing_0 1 rfl rfl)
theorem dX0_standing_2 : decode cX0_standing 2 = .ok (.irem, 1) := dk_112 (dk_at dksX0_standing_0 2 rfl rfl)
theorem dX0_standing_3 : decode cX0_standing 3 = .ok (.i2l, 1) := dk_133 (dk_at dksX0_standing_0 3 rfl rfl)
theorem dX0_standing_4 : decode cX0_standing 4 = .ok (.lstore_n 2, 1) := dk_65 (dk_at dksX0_standing_0 4 rfl rfl)
theorem dX0_standing_5 : decode cX0_standing 5 = .ok (.iconst 0, 1) := dk_3 (dk_at dksX0_standing_0 5 rfl rfl)
theorem dX0_standing_6 : decode cX0_standing 6 = .ok (.istore 4, 2) := dk_54 4 (dk_at dksX0_standing_0 6 rfl rfl)
theorem dX0_standing_8 : decode cX0_standing 8 = .ok (.iload 4, 2) := dk_21 4 (dk_at dksX0_standing_0 8 rfl rfl)
theorem dX0_standing_10 : decode cX0_standing 10 = .ok (.aload_n 0, 1) := dk_42 (dk_at dksX0_standing_0 10 rfl rfl)
theorem dX0_standing_11 : decode cX0_standing 11 = .ok (.getfield 305, 3) := dk_180 1 49 (dk_at dksX0_standing_0 11 rfl rfl)
theorem dX0_standing_14 : decode cX0_standing 14 = .ok (.if_icmp .ge 24, 3) := dk_162 0 24 (dk_at dksX0_standing_0 14 rfl rfl)
theorem dX0_standing_17 : decode cX0_standing 17 = .ok (.ldc2_w 307, 3) := dk_20 1 51 (dk_at dksX0_standing_0 17 rfl rfl)
theorem dX0_standing_20 : decode cX0_standing 20 = .ok (.lload_n 2, 1) := dk_32 (dk_at dksX0_standing_0 20 rfl rfl)
theorem dX0_standing_21 : decode cX0_standing 21 = .ok (.lmul, 1) := dk_105 (dk_at dksX0_standing_0 21 rfl rfl)
theorem dX0_standing_22 : decode cX0_standing 22 = .ok (.aload_n 0, 1) := dk_42 (dk_at dksX0_standing_0 22 rfl rfl)
theorem dX0_standing_23 : decode cX0_standing 23 = .ok (.getfield 37, 3) := dk_180 0 37 (dk_at dksX0_standing_1 0 rfl rfl)
theorem dX0_standing_26 : decode cX0_standing 26 = .ok (.iload 4, 2) := dk_21 4 (dk_at dksX0_standing_1 3 rfl rfl)
theorem dX0_standing_28 : decode cX0_standing 28 = .ok (.iaload, 1) := dk_46 (dk_at dksX0_standing_1 5 rfl rfl)
theorem dX0_standing_29 : decode cX0_standing 29 = .ok (.i2l, 1) := dk_133 (dk_at dksX0_standing_1 6 rfl rfl)
theorem dX0_standing_30 : decode cX0_standing 30 = .ok (.ladd, 1) := dk_97 (dk_at dksX0_standing_1 7 rfl rfl)
theorem dX0_standing_31 : decode cX0_standing 31 = .ok (.lstore_n 2, 1) := dk_65 (dk_at dksX0_standing_1 8 rfl rfl)
theorem dX0_standing_32 : decode cX0_standing 32 = .ok (.iinc 4 1, 3) := dk_132 4 1 (dk_at dksX0_standing_1 9 rfl rfl)
theorem dX0_standing_35 : decode cX0_standing 35 = .ok (.goto (-27), 3) := dk_167 255 229 (dk_at dksX0_standing_1 12 rfl rfl)
theorem dX0_standing_38 : decode cX0_standing 38 = .ok (.lload_n 2, 1) := dk_32 (dk_at dksX0_standing_1 15 rfl rfl)
theorem dX0_standing_39 : decode cX0_standing 39 = .ok (.lreturn, 1) := dk_173 (dk_at dksX0_standing_1 16 rfl rfl)
abbrev MX0_standing : jjM := (yX0_standing, cX0_standing, 5, (Option.some Jvm.ClassFile.FieldType.long))
theorem npX0_standing : yX0_standing.cls ≠ "java/lang/invoke/MethodHandle" ∧ yX0_standing.cls ≠ "java/lang/invoke/VarHandle" ∧ (parseMethodDescriptor yX0_standing.desc).map (fun d => d.parameters.length) = some 1 := by decide +kernel
abbrev cX0_calm : ByteArray := prog_1_method_56_code
def yX0_calm : MethodName := ⟨RX0, "calm", "(III)I"⟩
def dkwX0_calm_2 : List UInt8 := [180, 1, 73, 4, 100, 184, 0, 74, 154, 0, 7, 2, 167, 0, 9, 42, 180, 0, 47, 29, 46, 172]
abbrev dktX0_calm_2 : List UInt8 := dkwX0_calm_2 ++ []
def dkwX0_calm_1 : List UInt8 := [182, 1, 89, 54, 4, 28, 2, 160, 0, 8, 42, 180, 1, 80, 172, 21, 4, 2, 159, 0, 17, 29, 3, 42]
abbrev dktX0_calm_1 : List UInt8 := dkwX0_calm_1 ++ dktX0_calm_2
def dkwX0_calm_0 : List UInt8 := [28, 2, 161, 0, 13, 42, 27, 16, 6, 182, 1, 86, 154, 0, 5, 2, 172, 42, 182, 0, 235, 42, 28]
abbrev dktX0_calm_0 : List UInt8 := dkwX0_calm_0 ++ dktX0_calm_1
theorem dksX0_calm_0 : cX0_calm.data.toList.drop 0 = dktX0_calm_0 := by decide +kernel
theorem dksX0_calm_1 : cX0_calm.data.toList.drop 23 = dktX0_calm_1 := dk_seg dksX0_calm_0 23 rfl rfl
theorem dksX0_calm_2 : cX0_calm.data.toList.drop 47 = dktX0_calm_2 := dk_seg dksX0_calm_1 24 rfl rfl
theorem dX0_calm_0 : decode cX0_calm 0 = .ok (.iload_n 2, 1) := dk_28 (dk_at dksX0_calm_0 0 rfl rfl)
theorem dX0_calm_1 : decode cX0_calm 1 = .ok (.iconst (-1), 1) := dk_2 (dk_at dksX0_calm_0 1 rfl rfl)
theorem dX0_calm_2 : decode cX0_calm 2 = .ok (.if_icmp .lt 13, 3) := dk_161 0 13 (dk_at dksX0_calm_0 2 rfl rfl)
theorem dX0_calm_5 : decode cX0_calm 5 = .ok (.aload_n 0, 1) := dk_42 (dk_at dksX0_calm_0 5 rfl rfl)
theorem dX0_calm_6 : decode cX0_calm 6 = .ok (.iload_n 1, 1) := dk_27 (dk_at dksX0_calm_0 6 rfl rfl)
theorem dX0_calm_7 : decode cX0_calm 7 = .ok (.bipush 6, 2) := dk_16 6 (dk_at dksX0_calm_0 7 rfl rfl)
theorem dX0_calm_9 : decode cX0_calm 9 = .ok (.invokevirtual 342, 3) := dk_182 1 86 (dk_at dksX0_calm_0 9 rfl rfl)
theorem dX0_calm_12 : decode cX0_calm 12 = .ok (.ifCond .ne 5, 3) := dk_154 0 5 (dk_at dksX0_calm_0 12 rfl rfl)
theorem dX0_calm_15 : decode cX0_calm 15 = .ok (.iconst (-1), 1) := dk_2 (dk_at dksX0_calm_0 15 rfl rfl)
theorem dX0_calm_16 : decode cX0_calm 16 = .ok (.ireturn, 1) := dk_172 (dk_at dksX0_calm_0 16 rfl rfl)
theorem dX0_calm_17 : decode cX0_calm 17 = .ok (.aload_n 0, 1) := dk_42 (dk_at dksX0_calm_0 17 rfl rfl)
theorem dX0_calm_18 : decode cX0_calm 18 = .ok (.invokevirtual 235, 3) := dk_182 0 235 (dk_at dksX0_calm_0 18 rfl rfl)
theorem dX0_calm_21 : decode cX0_calm 21 = .ok (.aload_n 0, 1) := dk_42 (dk_at dksX0_calm_0 21 rfl rfl)
theorem dX0_calm_22 : decode cX0_calm 22 = .ok (.iload_n 2, 1) := dk_28 (dk_at dksX0_calm_0 22 rfl rfl)
theorem dX0_calm_23 : decode cX0_calm 23 = .ok (.invokevirtual 345, 3) := dk_182 1 89 (dk_at dksX0_calm_1 0 rfl rfl)
theorem dX0_calm_26 : decode cX0_calm 26 = .ok (.istore 4, 2) := dk_54 4 (dk_at dksX0_calm_1 3 rfl rfl)
theorem dX0_calm_28 : decode cX0_calm 28 = .ok (.iload_n 2, 1) := dk_28 (dk_at dksX0_calm_1 5 rfl rfl)
theorem dX0_calm_29 : decode cX0_calm 29 = .ok (.iconst (-1), 1) := dk_2 (dk_at dksX0_calm_1 6 rfl rfl)
theorem dX0_calm_30 : decode cX0_calm 30 = .ok (.if_icmp .ne 8, 3) := dk_160 0 8 (dk_at dksX0_calm_1 7 rfl rfl)
theorem dX0_calm_33 : decode cX0_calm 33 = .ok (.aload_n 0, 1) := dk_42 (dk_at dksX0_calm_1 10 rfl rfl)
theorem dX0_calm_34 : decode cX0_calm 34 = .ok (.getfield 336, 3) := dk_180 1 80 (dk_at dksX0_calm_1 11 rfl rfl)
theorem dX0_calm_37 : decode cX0_calm 37 = .ok (.ireturn, 1) := dk_172 (dk_at dksX0_calm_1 14 rfl rfl)
theorem dX0_calm_38 : decode cX0_calm 38 = .ok (.iload 4, 2) := dk_21 4 (dk_at dksX0_calm_1 15 rfl rfl)
theorem dX0_calm_40 : decode cX0_calm 40 = .ok (.iconst (-1), 1) := dk_2 (dk_at dksX0_calm_1 17 rfl rfl)
theorem dX0_calm_41 : decode cX0_calm 41 = .ok (.if_icmp .eq 17, 3) := dk_159 0 17 (dk_at dksX0_calm_1 18 rfl rfl)
theorem dX0_calm_44 : decode cX0_calm 44 = .ok (.iload_n 3, 1) := dk_29 (dk_at dksX0_calm_1 21 rfl rfl)
theorem dX0_calm_45 : decode cX0_calm 45 = .ok (.iconst 0, 1) := dk_3 (dk_at dksX0_calm_1 22 rfl rfl)
theorem dX0_calm_46 : decode cX0_calm 46 = .ok (.aload_n 0, 1) := dk_42 (dk_at dksX0_calm_1 23 rfl rfl)
theorem dX0_calm_47 : decode cX0_calm 47 = .ok (.getfield 329, 3) := dk_180 1 73 (dk_at dksX0_calm_2 0 rfl rfl)
theorem dX0_calm_50 : decode cX0_calm 50 = .ok (.iconst 1, 1) := dk_4 (dk_at dksX0_calm_2 3 rfl rfl)
theorem dX0_calm_51 : decode cX0_calm 51 = .ok (.isub, 1) := dk_100 (dk_at dksX0_calm_2 4 rfl rfl)
theorem dX0_calm_52 : decode cX0_calm 52 = .ok (.invokestatic 74, 3) := dk_184 0 74 (dk_at dksX0_calm_2 5 rfl rfl)
theorem dX0_calm_55 : decode cX0_calm 55 = .ok (.ifCond .ne 7, 3) := dk_154 0 7 (dk_at dksX0_calm_2 8 rfl rfl)
theorem dX0_calm_58 : decode cX0_calm 58 = .ok (.iconst (-1), 1) := dk_2 (dk_at dksX0_calm_2 11 rfl rfl)
theorem dX0_calm_59 : decode cX0_calm 59 = .ok (.goto 9, 3) := dk_167 0 9 (dk_at dksX0_calm_2 12 rfl rfl)
theorem dX0_calm_62 : decode cX0_calm 62 = .ok (.aload_n 0, 1) := dk_42 (dk_at dksX0_calm_2 15 rfl rfl)
theorem dX0_calm_63 : decode cX0_calm 63 = .ok (.getfield 47, 3) := dk_180 0 47 (dk_at dksX0_calm_2 16 rfl rfl)
theorem dX0_calm_66 : decode cX0_calm 66 = .ok (.iload_n 3, 1) := dk_29 (dk_at dksX0_calm_2 19 rfl rfl)
theorem dX0_calm_67 : decode cX0_calm 67 = .ok (.iaload, 1) := dk_46 (dk_at dksX0_calm_2 20 rfl rfl)
theorem dX0_calm_68 : decode cX0_calm 68 = .ok (.ireturn, 1) := dk_172 (dk_at dksX0_calm_2 21 rfl rfl)
abbrev MX0_calm : jjM := (yX0_calm, cX0_calm, 5, (Option.some Jvm.ClassFile.FieldType.int))
theorem npX0_calm : yX0_calm.cls ≠ "java/lang/invoke/MethodHandle" ∧ yX0_calm.cls ≠ "java/lang/invoke/VarHandle" ∧ (parseMethodDescriptor yX0_calm.desc).map (fun d => d.parameters.length) = some 3 := by decide +kernel
abbrev cX0_choose : ByteArray := prog_1_method_52_code
def yX0_choose : MethodName := ⟨RX0, "choose", "(II)Z"⟩
def dkwX0_choose_3 : List UInt8 := [79, 42, 89, 180, 1, 73, 4, 96, 181, 1, 73, 132, 3, 1, 167, 255, 209, 4, 172]
abbrev dktX0_choose_3 : List UInt8 := dkwX0_choose_3 ++ []
def dkwX0_choose_2 : List UInt8 := [46, 162, 0, 40, 27, 29, 122, 4, 126, 154, 0, 6, 167, 0, 23, 42, 180, 0, 44, 42, 180, 1, 73, 29]
abbrev dktX0_choose_2 : List UInt8 := dkwX0_choose_2 ++ dktX0_choose_3
def dkwX0_choose_1 : List UInt8 := [153, 0, 11, 27, 184, 1, 75, 28, 164, 0, 5, 3, 172, 3, 62, 29, 42, 180, 0, 12, 180, 0, 71, 3]
abbrev dktX0_choose_1 : List UInt8 := dkwX0_choose_1 ++ dktX0_choose_2
def dkwX0_choose_0 : List UInt8 := [42, 3, 181, 1, 73, 27, 4, 4, 42, 180, 0, 12, 180, 0, 71, 3, 46, 120, 4, 100, 184, 0, 74]
abbrev dktX0_choose_0 : List UInt8 := dkwX0_choose_0 ++ dktX0_choose_1
theorem dksX0_choose_0 : cX0_choose.data.toList.drop 0 = dktX0_choose_0 := by decide +kernel
theorem dksX0_choose_1 : cX0_choose.data.toList.drop 23 = dktX0_choose_1 := dk_seg dksX0_choose_0 23 rfl rfl
theorem dksX0_choose_2 : cX0_choose.data.toList.drop 47 = dktX0_choose_2 := dk_seg dksX0_choose_1 24 rfl rfl
theorem dksX0_choose_3 : cX0_choose.data.toList.drop 71 = dktX0_choose_3 := dk_seg dksX0_choose_2 24 rfl rfl
theorem dX0_choose_0 : decode cX0_choose 0 = .ok (.aload_n 0, 1) := dk_42 (dk_at dksX0_choose_0 0 rfl rfl)
theorem dX0_choose_1 : decode cX0_choose 1 = .ok (.iconst 0, 1) := dk_3 (dk_at dksX0_choose_0 1 rfl rfl)
theorem dX0_choose_2 : decode cX0_choose 2 = .ok (.putfield 329, 3) := dk_181 1 73 (dk_at dksX0_choose_0 2 rfl rfl)
theorem dX0_choose_5 : decode cX0_choose 5 = .ok (.iload_n 1, 1) := dk_27 (dk_at dksX0_choose_0 5 rfl rfl)
theorem dX0_choose_6 : decode cX0_choose 6 = .ok (.iconst 1, 1) := dk_4 (dk_at dksX0_choose_0 6 rfl rfl)
theorem dX0_choose_7 : decode cX0_choose 7 = .ok (.iconst 1, 1) := dk_4 (dk_at dksX0_choose_0 7 rfl rfl)
theorem dX0_choose_8 : decode cX0_choose 8 = .ok (.aload_n 0, 1) := dk_42 (dk_at dksX0_choose_0 8 rfl rfl)
theorem dX0_choose_9 : decode cX0_choose 9 = .ok (.getfield 12, 3) := dk_180 0 12 (dk_at dksX0_choose_0 9 rfl rfl)
theorem dX0_choose_12 : decode cX0_choose 12 = .ok (.getfield 71, 3) := dk_180 0 71 (dk_at dksX0_choose_0 12 rfl rfl)
theorem dX0_choose_15 : decode cX0_choose 15 = .ok (.iconst 0, 1) := dk_3 (dk_at dksX0_choose_0 15 rfl rfl)
theorem dX0_choose_16 : decode cX0_choose 16 = .ok (.iaload, 1) := dk_46 (dk_at dksX0_choose_0 16 rfl rfl)
theorem dX0_choose_17 : decode cX0_choose 17 = .ok (.ishl, 1) := dk_120 (dk_at dksX0_choose_0 17 rfl rfl)
theorem dX0_choose_18 : decode cX0_choose 18 = .ok (.iconst 1, 1) := dk_4 (dk_at dksX0_choose_0 18 rfl rfl)
theorem dX0_choose_19 : decode cX0_choose 19 = .ok (.isub, 1) := dk_100 (dk_at dksX0_choose_0 19 rfl rfl)
theorem dX0_choose_20 : decode cX0_choose 20 = .ok (.invokestatic 74, 3) := dk_184 0 74 (dk_at dksX0_choose_0 20 rfl rfl)
theorem dX0_choose_23 : decode cX0_choose 23 = .ok (.ifCond .eq 11, 3) := dk_153 0 11 (dk_at dksX0_choose_1 0 rfl rfl)
theorem dX0_choose_26 : decode cX0_choose 26 = .ok (.iload_n 1, 1) := dk_27 (dk_at dksX0_choose_1 3 rfl rfl)
theorem dX0_choose_27 : decode cX0_choose 27 = .ok (.invokestatic 331, 3) := dk_184 1 75 (dk_at dksX0_choose_1 4 rfl rfl)
theorem dX0_choose_30 : decode cX0_choose 30 = .ok (.iload_n 2, 1) := dk_28 (dk_at dksX0_choose_1 7 rfl rfl)
theorem dX0_choose_31 : decode cX0_choose 31 = .ok (.if_icmp .le 5, 3) := dk_164 0 5 (dk_at dksX0_choose_1 8 rfl rfl)
theorem dX0_choose_34 : decode cX0_choose 34 = .ok (.iconst 0, 1) := dk_3 (dk_at dksX0_choose_1 11 rfl rfl)
theorem dX0_choose_35 : decode cX0_choose 35 = .ok (.ireturn, 1) := dk_172 (dk_at dksX0_choose_1 12 rfl rfl)
theorem dX0_choose_36 : decode cX0_choose 36 = .ok (.iconst 0, 1) := dk_3 (dk_at dksX0_choose_1 13 rfl rfl)
theorem dX0_choose_37 : decode cX0_choose 37 = .ok (.istore_n 3, 1) := dk_62 (dk_at dksX0_choose_1 14 rfl rfl)
theorem dX0_choose_38 : decode cX0_choose 38 = .ok (.iload_n 3, 1) := dk_29 (dk_at dksX0_choose_1 15 rfl rfl)
theorem dX0_choose_39 : decode cX0_choose 39 = .ok (.aload_n 0, 1) := dk_42 (dk_at dksX0_choose_1 16 rfl rfl)
theorem dX0_choose_40 : decode cX0_choose 40 = .ok (.getfield 12, 3) := dk_180 0 12 (dk_at dksX0_choose_1 17 rfl rfl)
theorem dX0_choose_43 : decode cX0_choose 43 = .ok (.getfield 71, 3) := dk_180 0 71 (dk_at dksX0_choose_1 20 rfl rfl)
theorem dX0_choose_46 : decode cX0_choose 46 = .ok (.iconst 0, 1) := dk_3 (dk_at dksX0_choose_1 23 rfl rfl)
theorem dX0_choose_47 : decode cX0_choose 47 = .ok (.iaload, 1) := dk_46 (dk_at dksX0_choose_2 0 rfl rfl)
theorem dX0_choose_48 : decode cX0_choose 48 = .ok (.if_icmp .ge 40, 3) := dk_162 0 40 (dk_at dksX0_choose_2 1 rfl rfl)
theorem dX0_choose_51 : decode cX0_choose 51 = .ok (.iload_n 1, 1) := dk_27 (dk_at dksX0_choose_2 4 rfl rfl)
theorem dX0_choose_52 : decode cX0_choose 52 = .ok (.iload_n 3, 1) := dk_29 (dk_at dksX0_choose_2 5 rfl rfl)
theorem dX0_choose_53 : decode cX0_choose 53 = .ok (.ishr, 1) := dk_122 (dk_at dksX0_choose_2 6 rfl rfl)
theorem dX0_choose_54 : decode cX0_choose 54 = .ok (.iconst 1, 1) := dk_4 (dk_at dksX0_choose_2 7 rfl rfl)
theorem dX0_choose_55 : decode cX0_choose 55 = .ok (.iand, 1) := dk_126 (dk_at dksX0_choose_2 8 rfl rfl)
theorem dX0_choose_56 : decode cX0_choose 56 = .ok (.ifCond .ne 6, 3) := dk_154 0 6 (dk_at dksX0_choose_2 9 rfl rfl)
theorem dX0_choose_59 : decode cX0_choose 59 = .ok (.goto 23, 3) := dk_167 0 23 (dk_at dksX0_choose_2 12 rfl rfl)
theorem dX0_choose_62 : decode cX0_choose 62 = .ok (.aload_n 0, 1) := dk_42 (dk_at dksX0_choose_2 15 rfl rfl)
theorem dX0_choose_63 : decode cX0_choose 63 = .ok (.getfield 44, 3) := dk_180 0 44 (dk_at dksX0_choose_2 16 rfl rfl)
theorem dX0_choose_66 : decode cX0_choose 66 = .ok (.aload_n 0, 1) := dk_42 (dk_at dksX0_choose_2 19 rfl rfl)
theorem dX0_choose_67 : decode cX0_choose 67 = .ok (.getfield 329, 3) := dk_180 1 73 (dk_at dksX0_choose_2 20 rfl rfl)
theorem dX0_choose_70 : decode cX0_choose 70 = .ok (.iload_n 3, 1) := dk_29 (dk_at dksX0_choose_2 23 rfl rfl)
theorem dX0_choose_71 : decode cX0_choose 71 = .ok (.iastore, 1) := dk_79 (dk_at dksX0_choose_3 0 rfl rfl)
theorem dX0_choose_72 : decode cX0_choose 72 = .ok (.aload_n 0, 1) := dk_42 (dk_at dksX0_choose_3 1 rfl rfl)
theorem dX0_choose_73 : decode cX0_choose 73 = .ok (.dup, 1) := dk_89 (dk_at dksX0_choose_3 2 rfl rfl)
theorem dX0_choose_74 : decode cX0_choose 74 = .ok (.getfield 329, 3) := dk_180 1 73 (dk_at dksX0_choose_3 3 rfl rfl)
theorem dX0_choose_77 : decode cX0_choose 77 = .ok (.iconst 1, 1) := dk_4 (dk_at dksX0_choose_3 6 rfl rfl)
theorem dX0_choose_78 : decode cX0_choose 78 = .ok (.iadd, 1) := dk_96 (dk_at dksX0_choose_3 7 rfl rfl)
theorem dX0_choose_79 : decode cX0_choose 79 = .ok (.putfield 329, 3) := dk_181 1 73 (dk_at dksX0_choose_3 8 rfl rfl)
theorem dX0_choose_82 : decode cX0_choose 82 = .ok (.iinc 3 1, 3) := dk_132 3 1 (dk_at dksX0_choose_3 11 rfl rfl)
theorem dX0_choose_85 : decode cX0_choose 85 = .ok (.goto (-47), 3) := dk_167 255 209 (dk_at dksX0_choose_3 14 rfl rfl)
theorem dX0_choose_88 : decode cX0_choose 88 = .ok (.iconst 1, 1) := dk_4 (dk_at dksX0_choose_3 17 rfl rfl)
theorem dX0_choose_89 : decode cX0_choose 89 = .ok (.ireturn, 1) := dk_172 (dk_at dksX0_choose_3 18 rfl rfl)
abbrev MX0_choose : jjM := (yX0_choose, cX0_choose, 4, (Option.some Jvm.ClassFile.FieldType.boolean))
theorem npX0_choose : yX0_choose.cls ≠ "java/lang/invoke/MethodHandle" ∧ yX0_choose.cls ≠ "java/lang/invoke/VarHandle" ∧ (parseMethodDescriptor yX0_choose.desc).map (fun d => d.parameters.length) = some 2 := by decide +kernel
abbrev cX0_calmNumber : ByteArray := prog_1_method_55_code
def yX0_calmNumber : MethodName := ⟨RX0, "calmNumber", "(I)I"⟩
def dkwX0_calmNumber_2 : List UInt8 := [160, 0, 5, 28, 172, 42, 89, 180, 1, 80, 4, 96, 181, 1, 80, 132, 2, 1, 167, 255, 199, 2, 172]
abbrev dktX0_calmNumber_2 : List UInt8 := dkwX0_calmNumber_2 ++ []
def dkwX0_calmNumber_1 : List UInt8 := [42, 180, 0, 47, 42, 180, 1, 73, 182, 1, 53, 154, 0, 6, 167, 0, 23, 42, 180, 1, 80, 27]
abbrev dktX0_calmNumber_1 : List UInt8 := dkwX0_calmNumber_1 ++ dktX0_calmNumber_2
def dkwX0_calmNumber_0 : List UInt8 := [42, 3, 181, 1, 80, 3, 61, 28, 42, 180, 1, 73, 184, 1, 70, 162, 0, 52, 42, 28, 182, 1, 83, 42]
abbrev dktX0_calmNumber_0 : List UInt8 := dkwX0_calmNumber_0 ++ dktX0_calmNumber_1
theorem dksX0_calmNumber_0 : cX0_calmNumber.data.toList.drop 0 = dktX0_calmNumber_0 := by decide +kernel
theorem dksX0_calmNumber_1 : cX0_calmNumber.data.toList.drop 24 = dktX0_calmNumber_1 := dk_seg dksX0_calmNumber_0 24 rfl rfl
theorem dksX0_calmNumber_2 : cX0_calmNumber.data.toList.drop 46 = dktX0_calmNumber_2 := dk_seg dksX0_calmNumber_1 22 rfl rfl
theorem dX0_calmNumber_0 : decode cX0_calmNumber 0 = .ok (.aload_n 0, 1) := dk_42 (dk_at dksX0_calmNumber_0 0 rfl rfl)
theorem dX0_calmNumber_1 : decode cX0_calmNumber 1 = .ok (.iconst 0, 1) := dk_3 (dk_at dksX0_calmNumber_0 1 rfl rfl)
theorem dX0_calmNumber_2 : decode cX0_calmNumber 2 = .ok (.putfield 336, 3) := dk_181 1 80 (dk_at dksX0_calmNumber_0 2 rfl rfl)
theorem dX0_calmNumber_5 : decode cX0_calmNumber 5 = .ok (.iconst 0, 1) := dk_3 (dk_at dksX0_calmNumber_0 5 rfl rfl)
theorem dX0_calmNumber_6 : decode cX0_calmNumber 6 = .ok (.istore_n 2, 1) := dk_61 (dk_at dksX0_calmNumber_0 6 rfl rfl)
theorem dX0_calmNumber_7 : decode cX0_calmNumber 7 = .ok (.iload_n 2, 1) := dk_28 (dk_at dksX0_calmNumber_0 7 rfl rfl)
theorem dX0_calmNumber_8 : decode cX0_calmNumber 8 = .ok (.aload_n 0, 1) := dk_42 (dk_at dksX0_calmNumber_0 8 rfl rfl)
theorem dX0_calmNumber_9 : decode cX0_calmNumber 9 = .ok (.getfield 329, 3) := dk_180 1 73 (dk_at dksX0_calmNumber_0 9 rfl rfl)
theorem dX0_calmNumber_12 : decode cX0_calmNumber 12 = .ok (.invokestatic 326, 3) := dk_184 1 70 (dk_at dksX0_calmNumber_0 12 rfl rfl)
theorem dX0_calmNumber_15 : decode cX0_calmNumber 15 = .ok (.if_icmp .ge 52, 3) := dk_162 0 52 (dk_at dksX0_calmNumber_0 15 rfl rfl)
theorem dX0_calmNumber_18 : decode cX0_calmNumber 18 = .ok (.aload_n 0, 1) := dk_42 (dk_at dksX0_calmNumber_0 18 rfl rfl)
theorem dX0_calmNumber_19 : decode cX0_calmNumber 19 = .ok (.iload_n 2, 1) := dk_28 (dk_at dksX0_calmNumber_0 19 rfl rfl)
theorem dX0_calmNumber_20 : decode cX0_calmNumber 20 = .ok (.invokevirtual 339, 3) := dk_182 1 83 (dk_at dksX0_calmNumber_0 20 rfl rfl)
theorem dX0_calmNumber_23 : decode cX0_calmNumber 23 = .ok (.aload_n 0, 1) := dk_42 (dk_at dksX0_calmNumber_0 23 rfl rfl)
theorem dX0_calmNumber_24 : decode cX0_calmNumber 24 = .ok (.aload_n 0, 1) := dk_42 (dk_at dksX0_calmNumber_1 0 rfl rfl)
theorem dX0_calmNumber_25 : decode cX0_calmNumber 25 = .ok (.getfield 47, 3) := dk_180 0 47 (dk_at dksX0_calmNumber_1 1 rfl rfl)
theorem dX0_calmNumber_28 : decode cX0_calmNumber 28 = .ok (.aload_n 0, 1) := dk_42 (dk_at dksX0_calmNumber_1 4 rfl rfl)
theorem dX0_calmNumber_29 : decode cX0_calmNumber 29 = .ok (.getfield 329, 3) := dk_180 1 73 (dk_at dksX0_calmNumber_1 5 rfl rfl)
theorem dX0_calmNumber_32 : decode cX0_calmNumber 32 = .ok (.invokevirtual 309, 3) := dk_182 1 53 (dk_at dksX0_calmNumber_1 8 rfl rfl)
theorem dX0_calmNumber_35 : decode cX0_calmNumber 35 = .ok (.ifCond .ne 6, 3) := dk_154 0 6 (dk_at dksX0_calmNumber_1 11 rfl rfl)
theorem dX0_calmNumber_38 : decode cX0_calmNumber 38 = .ok (.goto 23, 3) := dk_167 0 23 (dk_at dksX0_calmNumber_1 14 rfl rfl)
theorem dX0_calmNumber_41 : decode cX0_calmNumber 41 = .ok (.aload_n 0, 1) := dk_42 (dk_at dksX0_calmNumber_1 17 rfl rfl)
theorem dX0_calmNumber_42 : decode cX0_calmNumber 42 = .ok (.getfield 336, 3) := dk_180 1 80 (dk_at dksX0_calmNumber_1 18 rfl rfl)
theorem dX0_calmNumber_45 : decode cX0_calmNumber 45 = .ok (.iload_n 1, 1) := dk_27 (dk_at dksX0_calmNumber_1 21 rfl rfl)
theorem dX0_calmNumber_46 : decode cX0_calmNumber 46 = .ok (.if_icmp .ne 5, 3) := dk_160 0 5 (dk_at dksX0_calmNumber_2 0 rfl rfl)
theorem dX0_calmNumber_49 : decode cX0_calmNumber 49 = .ok (.iload_n 2, 1) := dk_28 (dk_at dksX0_calmNumber_2 3 rfl rfl)
theorem dX0_calmNumber_50 : decode cX0_calmNumber 50 = .ok (.ireturn, 1) := dk_172 (dk_at dksX0_calmNumber_2 4 rfl rfl)
theorem dX0_calmNumber_51 : decode cX0_calmNumber 51 = .ok (.aload_n 0, 1) := dk_42 (dk_at dksX0_calmNumber_2 5 rfl rfl)
theorem dX0_calmNumber_52 : decode cX0_calmNumber 52 = .ok (.dup, 1) := dk_89 (dk_at dksX0_calmNumber_2 6 rfl rfl)
theorem dX0_calmNumber_53 : decode cX0_calmNumber 53 = .ok (.getfield 336, 3) := dk_180 1 80 (dk_at dksX0_calmNumber_2 7 rfl rfl)
theorem dX0_calmNumber_56 : decode cX0_calmNumber 56 = .ok (.iconst 1, 1) := dk_4 (dk_at dksX0_calmNumber_2 10 rfl rfl)
theorem dX0_calmNumber_57 : decode cX0_calmNumber 57 = .ok (.iadd, 1) := dk_96 (dk_at dksX0_calmNumber_2 11 rfl rfl)
theorem dX0_calmNumber_58 : decode cX0_calmNumber 58 = .ok (.putfield 336, 3) := dk_181 1 80 (dk_at dksX0_calmNumber_2 12 rfl rfl)
theorem dX0_calmNumber_61 : decode cX0_calmNumber 61 = .ok (.iinc 2 1, 3) := dk_132 2 1 (dk_at dksX0_calmNumber_2 15 rfl rfl)
theorem dX0_calmNumber_64 : decode cX0_calmNumber 64 = .ok (.goto (-57), 3) := dk_167 255 199 (dk_at dksX0_calmNumber_2 18 rfl rfl)
theorem dX0_calmNumber_67 : decode cX0_calmNumber 67 = .ok (.iconst (-1), 1) := dk_2 (dk_at dksX0_calmNumber_2 21 rfl rfl)
theorem dX0_calmNumber_68 : decode cX0_calmNumber 68 = .ok (.ireturn, 1) := dk_172 (dk_at dksX0_calmNumber_2 22 rfl rfl)
abbrev MX0_calmNumber : jjM := (yX0_calmNumber, cX0_calmNumber, 3, (Option.some Jvm.ClassFile.FieldType.int))
theorem npX0_calmNumber : yX0_calmNumber.cls ≠ "java/lang/invoke/MethodHandle" ∧ yX0_calmNumber.cls ≠ "java/lang/invoke/VarHandle" ∧ (parseMethodDescriptor yX0_calmNumber.desc).map (fun d => d.parameters.length) = some 1 := by decide +kernel
abbrev cX0_rows : ByteArray := prog_1_method_51_code
def yX0_rows : MethodName := ⟨RX0, "rows", "(I)I"⟩
def dkwX0_rows_0 : List UInt8 := [26, 5, 162, 0, 7, 4, 167, 0, 11, 26, 26, 4, 100, 184, 1, 70, 104, 172]
abbrev dktX0_rows_0 : List UInt8 := dkwX0_rows_0 ++ []
theorem dksX0_rows_0 : cX0_rows.data.toList.drop 0 = dktX0_rows_0 := by decide +kernel
theorem dX0_rows_0 : decode cX0_rows 0 = .ok (.iload_n 0, 1) := dk_26 (dk_at dksX0_rows_0 0 rfl rfl)
theorem dX0_rows_1 : decode cX0_rows 1 = .ok (.iconst 2, 1) := dk_5 (dk_at dksX0_rows_0 1 rfl rfl)
theorem dX0_rows_2 : decode cX0_rows 2 = .ok (.if_icmp .ge 7, 3) := dk_162 0 7 (dk_at dksX0_rows_0 2 rfl rfl)
theorem dX0_rows_5 : decode cX0_rows 5 = .ok (.iconst 1, 1) := dk_4 (dk_at dksX0_rows_0 5 rfl rfl)
theorem dX0_rows_6 : decode cX0_rows 6 = .ok (.goto 11, 3) := dk_167 0 11 (dk_at dksX0_rows_0 6 rfl rfl)
theorem dX0_rows_9 : decode cX0_rows 9 = .ok (.iload_n 0, 1) := dk_26 (dk_at dksX0_rows_0 9 rfl rfl)
theorem dX0_rows_10 : decode cX0_rows 10 = .ok (.iload_n 0, 1) := dk_26 (dk_at dksX0_rows_0 10 rfl rfl)
theorem dX0_rows_11 : decode cX0_rows 11 = .ok (.iconst 1, 1) := dk_4 (dk_at dksX0_rows_0 11 rfl rfl)
theorem dX0_rows_12 : decode cX0_rows 12 = .ok (.isub, 1) := dk_100 (dk_at dksX0_rows_0 12 rfl rfl)
theorem dX0_rows_13 : decode cX0_rows 13 = .ok (.invokestatic 326, 3) := dk_184 1 70 (dk_at dksX0_rows_0 13 rfl rfl)
theorem dX0_rows_16 : decode cX0_rows 16 = .ok (.imul, 1) := dk_104 (dk_at dksX0_rows_0 16 rfl rfl)
theorem dX0_rows_17 : decode cX0_rows 17 = .ok (.ireturn, 1) := dk_172 (dk_at dksX0_rows_0 17 rfl rfl)
abbrev MX0_rows : jjM := (yX0_rows, cX0_rows, 1, (Option.some Jvm.ClassFile.FieldType.int))
theorem npX0_rows : yX0_rows.cls ≠ "java/lang/invoke/MethodHandle" ∧ yX0_rows.cls ≠ "java/lang/invoke/VarHandle" ∧ (parseMethodDescriptor yX0_rows.desc).map (fun d => d.parameters.length) = some 1 := by decide +kernel
abbrev cX0_laysOrder : ByteArray := prog_1_method_53_code
def yX0_laysOrder : MethodName := ⟨RX0, "laysOrder", "(I)V"⟩
def dkwX0_laysOrder_4 : List UInt8 := [21, 4, 42, 180, 0, 44, 21, 6, 46, 79, 132, 4, 1, 167, 255, 155, 177]
abbrev dktX0_laysOrder_4 : List UInt8 := dkwX0_laysOrder_4 ++ []
def dkwX0_laysOrder_3 : List UInt8 := [122, 4, 126, 100, 100, 54, 5, 132, 6, 1, 167, 255, 225, 29, 4, 21, 6, 120, 128, 62, 42, 180, 0, 47]
abbrev dktX0_laysOrder_3 : List UInt8 := dkwX0_laysOrder_3 ++ dktX0_laysOrder_4
def dkwX0_laysOrder_2 : List UInt8 := [3, 54, 6, 29, 21, 6, 122, 4, 126, 4, 159, 0, 8, 21, 5, 158, 0, 22, 21, 5, 4, 29, 21, 6]
abbrev dktX0_laysOrder_2 : List UInt8 := dkwX0_laysOrder_2 ++ dktX0_laysOrder_3
def dkwX0_laysOrder_1 : List UInt8 := [21, 4, 100, 184, 1, 70, 108, 54, 5, 28, 42, 180, 1, 73, 4, 100, 21, 4, 100, 184, 1, 70, 112, 61]
abbrev dktX0_laysOrder_1 : List UInt8 := dkwX0_laysOrder_1 ++ dktX0_laysOrder_2
def dkwX0_laysOrder_0 : List UInt8 := [27, 61, 3, 62, 3, 54, 4, 21, 4, 42, 180, 1, 73, 162, 0, 98, 28, 42, 180, 1, 73, 4, 100]
abbrev dktX0_laysOrder_0 : List UInt8 := dkwX0_laysOrder_0 ++ dktX0_laysOrder_1
theorem dksX0_laysOrder_0 : cX0_laysOrder.data.toList.drop 0 = dktX0_laysOrder_0 := by decide +kernel
theorem dksX0_laysOrder_1 : cX0_laysOrder.data.toList.drop 23 = dktX0_laysOrder_1 := dk_seg dksX0_laysOrder_0 23 rfl rfl
theorem dksX0_laysOrder_2 : cX0_laysOrder.data.toList.drop 47 = dktX0_laysOrder_2 := dk_seg dksX0_laysOrder_1 24 rfl rfl
theorem dksX0_laysOrder_3 : cX0_laysOrder.data.toList.drop 71 = dktX0_laysOrder_3 := dk_seg dksX0_laysOrder_2 24 rfl rfl
theorem dksX0_laysOrder_4 : cX0_laysOrder.data.toList.drop 95 = dktX0_laysOrder_4 := dk_seg dksX0_laysOrder_3 24 rfl rfl
theorem dX0_laysOrder_0 : decode cX0_laysOrder 0 = .ok (.iload_n 1, 1) := dk_27 (dk_at dksX0_laysOrder_0 0 rfl rfl)
theorem dX0_laysOrder_1 : decode cX0_laysOrder 1 = .ok (.istore_n 2, 1) := dk_61 (dk_at dksX0_laysOrder_0 1 rfl rfl)
theorem dX0_laysOrder_2 : decode cX0_laysOrder 2 = .ok (.iconst 0, 1) := dk_3 (dk_at dksX0_laysOrder_0 2 rfl rfl)
theorem dX0_laysOrder_3 : decode cX0_laysOrder 3 = .ok (.istore_n 3, 1) := dk_62 (dk_at dksX0_laysOrder_0 3 rfl rfl)
theorem dX0_laysOrder_4 : decode cX0_laysOrder 4 = .ok (.iconst 0, 1) := dk_3 (dk_at dksX0_laysOrder_0 4 rfl rfl)
theorem dX0_laysOrder_5 : decode cX0_laysOrder 5 = .ok (.istore 4, 2) := dk_54 4 (dk_at dksX0_laysOrder_0 5 rfl rfl)
theorem dX0_laysOrder_7 : decode cX0_laysOrder 7 = .ok (.iload 4, 2) := dk_21 4 (dk_at dksX0_laysOrder_0 7 rfl rfl)
theorem dX0_laysOrder_9 : decode cX0_laysOrder 9 = .ok (.aload_n 0, 1) := dk_42 (dk_at dksX0_laysOrder_0 9 rfl rfl)
theorem dX0_laysOrder_10 : decode cX0_laysOrder 10 = .ok (.getfield 329, 3) := dk_180 1 73 (dk_at dksX0_laysOrder_0 10 rfl rfl)
theorem dX0_laysOrder_13 : decode cX0_laysOrder 13 = .ok (.if_icmp .ge 98, 3) := dk_162 0 98 (dk_at dksX0_laysOrder_0 13 rfl rfl)
theorem dX0_laysOrder_16 : decode cX0_laysOrder 16 = .ok (.iload_n 2, 1) := dk_28 (dk_at dksX0_laysOrder_0 16 rfl rfl)
theorem dX0_laysOrder_17 : decode cX0_laysOrder 17 = .ok (.aload_n 0, 1) := dk_42 (dk_at dksX0_laysOrder_0 17 rfl rfl)
theorem dX0_laysOrder_18 : decode cX0_laysOrder 18 = .ok (.getfield 329, 3) := dk_180 1 73 (dk_at dksX0_laysOrder_0 18 rfl rfl)
theorem dX0_laysOrder_21 : decode cX0_laysOrder 21 = .ok (.iconst 1, 1) := dk_4 (dk_at dksX0_laysOrder_0 21 rfl rfl)
theorem dX0_laysOrder_22 : decode cX0_laysOrder 22 = .ok (.isub, 1) := dk_100 (dk_at dksX0_laysOrder_0 22 rfl rfl)
theorem dX0_laysOrder_23 : decode cX0_laysOrder 23 = .ok (.iload 4, 2) := dk_21 4 (dk_at dksX0_laysOrder_1 0 rfl rfl)
theorem dX0_laysOrder_25 : decode cX0_laysOrder 25 = .ok (.isub, 1) := dk_100 (dk_at dksX0_laysOrder_1 2 rfl rfl)
theorem dX0_laysOrder_26 : decode cX0_laysOrder 26 = .ok (.invokestatic 326, 3) := dk_184 1 70 (dk_at dksX0_laysOrder_1 3 rfl rfl)
theorem dX0_laysOrder_29 : decode cX0_laysOrder 29 = .ok (.idiv, 1) := dk_108 (dk_at dksX0_laysOrder_1 6 rfl rfl)
theorem dX0_laysOrder_30 : decode cX0_laysOrder 30 = .ok (.istore 5, 2) := dk_54 5 (dk_at dksX0_laysOrder_1 7 rfl rfl)
theorem dX0_laysOrder_32 : decode cX0_laysOrder 32 = .ok (.iload_n 2, 1) := dk_28 (dk_at dksX0_laysOrder_1 9 rfl rfl)
theorem dX0_laysOrder_33 : decode cX0_laysOrder 33 = .ok (.aload_n 0, 1) := dk_42 (dk_at dksX0_laysOrder_1 10 rfl rfl)
theorem dX0_laysOrder_34 : decode cX0_laysOrder 34 = .ok (.getfield 329, 3) := dk_180 1 73 (dk_at dksX0_laysOrder_1 11 rfl rfl)
theorem dX0_laysOrder_37 : decode cX0_laysOrder 37 = .ok (.iconst 1, 1) := dk_4 (dk_at dksX0_laysOrder_1 14 rfl rfl)
theorem dX0_laysOrder_38 : decode cX0_laysOrder 38 = .ok (.isub, 1) := dk_100 (dk_at dksX0_laysOrder_1 15 rfl rfl)
theorem dX0_laysOrder_39 : decode cX0_laysOrder 39 = .ok (.iload 4, 2) := dk_21 4 (dk_at dksX0_laysOrder_1 16 rfl rfl)
theorem dX0_laysOrder_41 : decode cX0_laysOrder 41 = .ok (.isub, 1) := dk_100 (dk_at dksX0_laysOrder_1 18 rfl rfl)
theorem dX0_laysOrder_42 : decode cX0_laysOrder 42 = .ok (.invokestatic 326, 3) := dk_184 1 70 (dk_at dksX0_laysOrder_1 19 rfl rfl)
theorem dX0_laysOrder_45 : decode cX0_laysOrder 45 = .ok (.irem, 1) := dk_112 (dk_at dksX0_laysOrder_1 22 rfl rfl)
theorem dX0_laysOrder_46 : decode cX0_laysOrder 46 = .ok (.istore_n 2, 1) := dk_61 (dk_at dksX0_laysOrder_1 23 rfl rfl)
theorem dX0_laysOrder_47 : decode cX0_laysOrder 47 = .ok (.iconst 0, 1) := dk_3 (dk_at dksX0_laysOrder_2 0 rfl rfl)
theorem dX0_laysOrder_48 : decode cX0_laysOrder 48 = .ok (.istore 6, 2) := dk_54 6 (dk_at dksX0_laysOrder_2 1 rfl rfl)
theorem dX0_laysOrder_50 : decode cX0_laysOrder 50 = .ok (.iload_n 3, 1) := dk_29 (dk_at dksX0_laysOrder_2 3 rfl rfl)
theorem dX0_laysOrder_51 : decode cX0_laysOrder 51 = .ok (.iload 6, 2) := dk_21 6 (dk_at dksX0_laysOrder_2 4 rfl rfl)
theorem dX0_laysOrder_53 : decode cX0_laysOrder 53 = .ok (.ishr, 1) := dk_122 (dk_at dksX0_laysOrder_2 6 rfl rfl)
theorem dX0_laysOrder_54 : decode cX0_laysOrder 54 = .ok (.iconst 1, 1) := dk_4 (dk_at dksX0_laysOrder_2 7 rfl rfl)
theorem dX0_laysOrder_55 : decode cX0_laysOrder 55 = .ok (.iand, 1) := dk_126 (dk_at dksX0_laysOrder_2 8 rfl rfl)
theorem dX0_laysOrder_56 : decode cX0_laysOrder 56 = .ok (.iconst 1, 1) := dk_4 (dk_at dksX0_laysOrder_2 9 rfl rfl)
theorem dX0_laysOrder_57 : decode cX0_laysOrder 57 = .ok (.if_icmp .eq 8, 3) := dk_159 0 8 (dk_at dksX0_laysOrder_2 10 rfl rfl)
theorem dX0_laysOrder_60 : decode cX0_laysOrder 60 = .ok (.iload 5, 2) := dk_21 5 (dk_at dksX0_laysOrder_2 13 rfl rfl)
theorem dX0_laysOrder_62 : decode cX0_laysOrder 62 = .ok (.ifCond .le 22, 3) := dk_158 0 22 (dk_at dksX0_laysOrder_2 15 rfl rfl)
theorem dX0_laysOrder_65 : decode cX0_laysOrder 65 = .ok (.iload 5, 2) := dk_21 5 (dk_at dksX0_laysOrder_2 18 rfl rfl)
theorem dX0_laysOrder_67 : decode cX0_laysOrder 67 = .ok (.iconst 1, 1) := dk_4 (dk_at dksX0_laysOrder_2 20 rfl rfl)
theorem dX0_laysOrder_68 : decode cX0_laysOrder 68 = .ok (.iload_n 3, 1) := dk_29 (dk_at dksX0_laysOrder_2 21 rfl rfl)
theorem dX0_laysOrder_69 : decode cX0_laysOrder 69 = .ok (.iload 6, 2) := dk_21 6 (dk_at dksX0_laysOrder_2 22 rfl rfl)
theorem dX0_laysOrder_71 : decode cX0_laysOrder 71 = .ok (.ishr, 1) := dk_122 (dk_at dksX0_laysOrder_3 0 rfl rfl)
theorem dX0_laysOrder_72 : decode cX0_laysOrder 72 = .ok (.iconst 1, 1) := dk_4 (dk_at dksX0_laysOrder_3 1 rfl rfl)
theorem dX0_laysOrder_73 : decode cX0_laysOrder 73 = .ok (.iand, 1) := dk_126 (dk_at dksX0_laysOrder_3 2 rfl rfl)
theorem dX0_laysOrder_74 : decode cX0_laysOrder 74 = .ok (.isub, 1) := dk_100 (dk_at dksX0_laysOrder_3 3 rfl rfl)
theorem dX0_laysOrder_75 : decode cX0_laysOrder 75 = .ok (.isub, 1) := dk_100 (dk_at dksX0_laysOrder_3 4 rfl rfl)
theorem dX0_laysOrder_76 : decode cX0_laysOrder 76 = .ok (.istore 5, 2) := dk_54 5 (dk_at dksX0_laysOrder_3 5 rfl rfl)
theorem dX0_laysOrder_78 : decode cX0_laysOrder 78 = .ok (.iinc 6 1, 3) := dk_132 6 1 (dk_at dksX0_laysOrder_3 7 rfl rfl)
theorem dX0_laysOrder_81 : decode cX0_laysOrder 81 = .ok (.goto (-31), 3) := dk_167 255 225 (dk_at dksX0_laysOrder_3 10 rfl rfl)
theorem dX0_laysOrder_84 : decode cX0_laysOrder 84 = .ok (.iload_n 3, 1) := dk_29 (dk_at dksX0_laysOrder_3 13 rfl rfl)
theorem dX0_laysOrder_85 : decode cX0_laysOrder 85 = .ok (.iconst 1, 1) := dk_4 (dk_at dksX0_laysOrder_3 14 rfl rfl)
theorem dX0_laysOrder_86 : decode cX0_laysOrder 86 = .ok (.iload 6, 2) := dk_21 6 (dk_at dksX0_laysOrder_3 15 rfl rfl)
theorem dX0_laysOrder_88 : decode cX0_laysOrder 88 = .ok (.ishl, 1) := dk_120 (dk_at dksX0_laysOrder_3 17 rfl rfl)
theorem dX0_laysOrder_89 : decode cX0_laysOrder 89 = .ok (.ior, 1) := dk_128 (dk_at dksX0_laysOrder_3 18 rfl rfl)
theorem dX0_laysOrder_90 : decode cX0_laysOrder 90 = .ok (.istore_n 3, 1) := dk_62 (dk_at dksX0_laysOrder_3 19 rfl rfl)
theorem dX0_laysOrder_91 : decode cX0_laysOrder 91 = .ok (.aload_n 0, 1) := dk_42 (dk_at dksX0_laysOrder_3 20 rfl rfl)
theorem dX0_laysOrder_92 : decode cX0_laysOrder 92 = .ok (.getfield 47, 3) := dk_180 0 47 (dk_at dksX0_laysOrder_3 21 rfl rfl)
theorem dX0_laysOrder_95 : decode cX0_laysOrder 95 = .ok (.iload 4, 2) := dk_21 4 (dk_at dksX0_laysOrder_4 0 rfl rfl)
theorem dX0_laysOrder_97 : decode cX0_laysOrder 97 = .ok (.aload_n 0, 1) := dk_42 (dk_at dksX0_laysOrder_4 2 rfl rfl)
theorem dX0_laysOrder_98 : decode cX0_laysOrder 98 = .ok (.getfield 44, 3) := dk_180 0 44 (dk_at dksX0_laysOrder_4 3 rfl rfl)
theorem dX0_laysOrder_101 : decode cX0_laysOrder 101 = .ok (.iload 6, 2) := dk_21 6 (dk_at dksX0_laysOrder_4 6 rfl rfl)
theorem dX0_laysOrder_103 : decode cX0_laysOrder 103 = .ok (.iaload, 1) := dk_46 (dk_at dksX0_laysOrder_4 8 rfl rfl)
theorem dX0_laysOrder_104 : decode cX0_laysOrder 104 = .ok (.iastore, 1) := dk_79 (dk_at dksX0_laysOrder_4 9 rfl rfl)
theorem dX0_laysOrder_105 : decode cX0_laysOrder 105 = .ok (.iinc 4 1, 3) := dk_132 4 1 (dk_at dksX0_laysOrder_4 10 rfl rfl)
theorem dX0_laysOrder_108 : decode cX0_laysOrder 108 = .ok (.goto (-101), 3) := dk_167 255 155 (dk_at dksX0_laysOrder_4 13 rfl rfl)
theorem dX0_laysOrder_111 : decode cX0_laysOrder 111 = .ok (.return_, 1) := dk_177 (dk_at dksX0_laysOrder_4 16 rfl rfl)
abbrev MX0_laysOrder : jjM := (yX0_laysOrder, cX0_laysOrder, 7, (Option.none : Option Jvm.ClassFile.FieldType))
theorem npX0_laysOrder : yX0_laysOrder.cls ≠ "java/lang/invoke/MethodHandle" ∧ yX0_laysOrder.cls ≠ "java/lang/invoke/VarHandle" ∧ (parseMethodDescriptor yX0_laysOrder.desc).map (fun d => d.parameters.length) = some 1 := by decide +kernel
abbrev cX0_basin : ByteArray := prog_1_method_59_code
def yX0_basin : MethodName := ⟨RX0, "basin", "(II)I"⟩
def dkwX0_basin_1 : List UInt8 := [182, 1, 89, 62, 29, 2, 160, 0, 7, 2, 167, 0, 8, 42, 29, 182, 1, 98, 172]
abbrev dktX0_basin_1 : List UInt8 := dkwX0_basin_1 ++ []
def dkwX0_basin_0 : List UInt8 := [28, 155, 0, 13, 42, 27, 16, 6, 182, 1, 86, 154, 0, 5, 2, 172, 42, 182, 0, 235, 42, 28]
abbrev dktX0_basin_0 : List UInt8 := dkwX0_basin_0 ++ dktX0_basin_1
theorem dksX0_basin_0 : cX0_basin.data.toList.drop 0 = dktX0_basin_0 := by decide +kernel
theorem dksX0_basin_1 : cX0_basin.data.toList.drop 22 = dktX0_basin_1 := dk_seg dksX0_basin_0 22 rfl rfl
theorem dX0_basin_0 : decode cX0_basin 0 = .ok (.iload_n 2, 1) := dk_28 (dk_at dksX0_basin_0 0 rfl rfl)
theorem dX0_basin_1 : decode cX0_basin 1 = .ok (.ifCond .lt 13, 3) := dk_155 0 13 (dk_at dksX0_basin_0 1 rfl rfl)
theorem dX0_basin_4 : decode cX0_basin 4 = .ok (.aload_n 0, 1) := dk_42 (dk_at dksX0_basin_0 4 rfl rfl)
theorem dX0_basin_5 : decode cX0_basin 5 = .ok (.iload_n 1, 1) := dk_27 (dk_at dksX0_basin_0 5 rfl rfl)
theorem dX0_basin_6 : decode cX0_basin 6 = .ok (.bipush 6, 2) := dk_16 6 (dk_at dksX0_basin_0 6 rfl rfl)
theorem dX0_basin_8 : decode cX0_basin 8 = .ok (.invokevirtual 342, 3) := dk_182 1 86 (dk_at dksX0_basin_0 8 rfl rfl)
theorem dX0_basin_11 : decode cX0_basin 11 = .ok (.ifCond .ne 5, 3) := dk_154 0 5 (dk_at dksX0_basin_0 11 rfl rfl)
theorem dX0_basin_14 : decode cX0_basin 14 = .ok (.iconst (-1), 1) := dk_2 (dk_at dksX0_basin_0 14 rfl rfl)
theorem dX0_basin_15 : decode cX0_basin 15 = .ok (.ireturn, 1) := dk_172 (dk_at dksX0_basin_0 15 rfl rfl)
theorem dX0_basin_16 : decode cX0_basin 16 = .ok (.aload_n 0, 1) := dk_42 (dk_at dksX0_basin_0 16 rfl rfl)
theorem dX0_basin_17 : decode cX0_basin 17 = .ok (.invokevirtual 235, 3) := dk_182 0 235 (dk_at dksX0_basin_0 17 rfl rfl)
theorem dX0_basin_20 : decode cX0_basin 20 = .ok (.aload_n 0, 1) := dk_42 (dk_at dksX0_basin_0 20 rfl rfl)
theorem dX0_basin_21 : decode cX0_basin 21 = .ok (.iload_n 2, 1) := dk_28 (dk_at dksX0_basin_0 21 rfl rfl)
theorem dX0_basin_22 : decode cX0_basin 22 = .ok (.invokevirtual 345, 3) := dk_182 1 89 (dk_at dksX0_basin_1 0 rfl rfl)
theorem dX0_basin_25 : decode cX0_basin 25 = .ok (.istore_n 3, 1) := dk_62 (dk_at dksX0_basin_1 3 rfl rfl)
theorem dX0_basin_26 : decode cX0_basin 26 = .ok (.iload_n 3, 1) := dk_29 (dk_at dksX0_basin_1 4 rfl rfl)
theorem dX0_basin_27 : decode cX0_basin 27 = .ok (.iconst (-1), 1) := dk_2 (dk_at dksX0_basin_1 5 rfl rfl)
theorem dX0_basin_28 : decode cX0_basin 28 = .ok (.if_icmp .ne 7, 3) := dk_160 0 7 (dk_at dksX0_basin_1 6 rfl rfl)
theorem dX0_basin_31 : decode cX0_basin 31 = .ok (.iconst (-1), 1) := dk_2 (dk_at dksX0_basin_1 9 rfl rfl)
theorem dX0_basin_32 : decode cX0_basin 32 = .ok (.goto 8, 3) := dk_167 0 8 (dk_at dksX0_basin_1 10 rfl rfl)
theorem dX0_basin_35 : decode cX0_basin 35 = .ok (.aload_n 0, 1) := dk_42 (dk_at dksX0_basin_1 13 rfl rfl)
theorem dX0_basin_36 : decode cX0_basin 36 = .ok (.iload_n 3, 1) := dk_29 (dk_at dksX0_basin_1 14 rfl rfl)
theorem dX0_basin_37 : decode cX0_basin 37 = .ok (.invokevirtual 354, 3) := dk_182 1 98 (dk_at dksX0_basin_1 15 rfl rfl)
theorem dX0_basin_40 : decode cX0_basin 40 = .ok (.ireturn, 1) := dk_172 (dk_at dksX0_basin_1 18 rfl rfl)
abbrev MX0_basin : jjM := (yX0_basin, cX0_basin, 4, (Option.some Jvm.ClassFile.FieldType.int))
theorem npX0_basin : yX0_basin.cls ≠ "java/lang/invoke/MethodHandle" ∧ yX0_basin.cls ≠ "java/lang/invoke/VarHandle" ∧ (parseMethodDescriptor yX0_basin.desc).map (fun d => d.parameters.length) = some 2 := by decide +kernel
abbrev cX0_leadTo : ByteArray := prog_1_method_58_code
def yX0_leadTo : MethodName := ⟨RX0, "leadTo", "(I)I"⟩
def dkwX0_leadTo_1 : List UInt8 := [182, 1, 95, 27, 160, 0, 7, 4, 167, 0, 4, 3, 96, 61, 132, 3, 1, 167, 255, 221, 28, 172]
abbrev dktX0_leadTo_1 : List UInt8 := dkwX0_leadTo_1 ++ []
def dkwX0_leadTo_0 : List UInt8 := [3, 61, 3, 62, 29, 42, 180, 1, 73, 184, 1, 70, 162, 0, 30, 42, 29, 182, 1, 83, 28, 42]
abbrev dktX0_leadTo_0 : List UInt8 := dkwX0_leadTo_0 ++ dktX0_leadTo_1
theorem dksX0_leadTo_0 : cX0_leadTo.data.toList.drop 0 = dktX0_leadTo_0 := by decide +kernel
theorem dksX0_leadTo_1 : cX0_leadTo.data.toList.drop 22 = dktX0_leadTo_1 := dk_seg dksX0_leadTo_0 22 rfl rfl
theorem dX0_leadTo_0 : decode cX0_leadTo 0 = .ok (.iconst 0, 1) := dk_3 (dk_at dksX0_leadTo_0 0 rfl rfl)
theorem dX0_leadTo_1 : decode cX0_leadTo 1 = .ok (.istore_n 2, 1) := dk_61 (dk_at dksX0_leadTo_0 1 rfl rfl)
theorem dX0_leadTo_2 : decode cX0_leadTo 2 = .ok (.iconst 0, 1) := dk_3 (dk_at dksX0_leadTo_0 2 rfl rfl)
theorem dX0_leadTo_3 : decode cX0_leadTo 3 = .ok (.istore_n 3, 1) := dk_62 (dk_at dksX0_leadTo_0 3 rfl rfl)
theorem dX0_leadTo_4 : decode cX0_leadTo 4 = .ok (.iload_n 3, 1) := dk_29 (dk_at dksX0_leadTo_0 4 rfl rfl)
theorem dX0_leadTo_5 : decode cX0_leadTo 5 = .ok (.aload_n 0, 1) := dk_42 (dk_at dksX0_leadTo_0 5 rfl rfl)
theorem dX0_leadTo_6 : decode cX0_leadTo 6 = .ok (.getfield 329, 3) := dk_180 1 73 (dk_at dksX0_leadTo_0 6 rfl rfl)
theorem dX0_leadTo_9 : decode cX0_leadTo 9 = .ok (.invokestatic 326, 3) := dk_184 1 70 (dk_at dksX0_leadTo_0 9 rfl rfl)
theorem dX0_leadTo_12 : decode cX0_leadTo 12 = .ok (.if_icmp .ge 30, 3) := dk_162 0 30 (dk_at dksX0_leadTo_0 12 rfl rfl)
theorem dX0_leadTo_15 : decode cX0_leadTo 15 = .ok (.aload_n 0, 1) := dk_42 (dk_at dksX0_leadTo_0 15 rfl rfl)
theorem dX0_leadTo_16 : decode cX0_leadTo 16 = .ok (.iload_n 3, 1) := dk_29 (dk_at dksX0_leadTo_0 16 rfl rfl)
theorem dX0_leadTo_17 : decode cX0_leadTo 17 = .ok (.invokevirtual 339, 3) := dk_182 1 83 (dk_at dksX0_leadTo_0 17 rfl rfl)
theorem dX0_leadTo_20 : decode cX0_leadTo 20 = .ok (.iload_n 2, 1) := dk_28 (dk_at dksX0_leadTo_0 20 rfl rfl)
theorem dX0_leadTo_21 : decode cX0_leadTo 21 = .ok (.aload_n 0, 1) := dk_42 (dk_at dksX0_leadTo_0 21 rfl rfl)
theorem dX0_leadTo_22 : decode cX0_leadTo 22 = .ok (.invokevirtual 351, 3) := dk_182 1 95 (dk_at dksX0_leadTo_1 0 rfl rfl)
theorem dX0_leadTo_25 : decode cX0_leadTo 25 = .ok (.iload_n 1, 1) := dk_27 (dk_at dksX0_leadTo_1 3 rfl rfl)
theorem dX0_leadTo_26 : decode cX0_leadTo 26 = .ok (.if_icmp .ne 7, 3) := dk_160 0 7 (dk_at dksX0_leadTo_1 4 rfl rfl)
theorem dX0_leadTo_29 : decode cX0_leadTo 29 = .ok (.iconst 1, 1) := dk_4 (dk_at dksX0_leadTo_1 7 rfl rfl)
theorem dX0_leadTo_30 : decode cX0_leadTo 30 = .ok (.goto 4, 3) := dk_167 0 4 (dk_at dksX0_leadTo_1 8 rfl rfl)
theorem dX0_leadTo_33 : decode cX0_leadTo 33 = .ok (.iconst 0, 1) := dk_3 (dk_at dksX0_leadTo_1 11 rfl rfl)
theorem dX0_leadTo_34 : decode cX0_leadTo 34 = .ok (.iadd, 1) := dk_96 (dk_at dksX0_leadTo_1 12 rfl rfl)
theorem dX0_leadTo_35 : decode cX0_leadTo 35 = .ok (.istore_n 2, 1) := dk_61 (dk_at dksX0_leadTo_1 13 rfl rfl)
theorem dX0_leadTo_36 : decode cX0_leadTo 36 = .ok (.iinc 3 1, 3) := dk_132 3 1 (dk_at dksX0_leadTo_1 14 rfl rfl)
theorem dX0_leadTo_39 : decode cX0_leadTo 39 = .ok (.goto (-35), 3) := dk_167 255 221 (dk_at dksX0_leadTo_1 17 rfl rfl)
theorem dX0_leadTo_42 : decode cX0_leadTo 42 = .ok (.iload_n 2, 1) := dk_28 (dk_at dksX0_leadTo_1 20 rfl rfl)
theorem dX0_leadTo_43 : decode cX0_leadTo 43 = .ok (.ireturn, 1) := dk_172 (dk_at dksX0_leadTo_1 21 rfl rfl)
abbrev MX0_leadTo : jjM := (yX0_leadTo, cX0_leadTo, 4, (Option.some Jvm.ClassFile.FieldType.int))
theorem npX0_leadTo : yX0_leadTo.cls ≠ "java/lang/invoke/MethodHandle" ∧ yX0_leadTo.cls ≠ "java/lang/invoke/VarHandle" ∧ (parseMethodDescriptor yX0_leadTo.desc).map (fun d => d.parameters.length) = some 1 := by decide +kernel
abbrev cX0_endOf : ByteArray := prog_1_method_57_code
def yX0_endOf : MethodName := ⟨RX0, "endOf", "()I"⟩
def dkwX0_endOf_2 : List UInt8 := [28, 5, 112, 182, 0, 227, 62, 132, 2, 1, 167, 255, 211, 2, 172]
abbrev dktX0_endOf_2 : List UInt8 := dkwX0_endOf_2 ++ []
def dkwX0_endOf_1 : List UInt8 := [180, 1, 73, 182, 1, 53, 153, 0, 8, 42, 182, 1, 92, 172, 42, 42, 180, 0, 47, 3, 42, 180, 1, 73]
abbrev dktX0_endOf_1 : List UInt8 := dkwX0_endOf_1 ++ dktX0_endOf_2
def dkwX0_endOf_0 : List UInt8 := [5, 42, 180, 1, 73, 184, 1, 70, 104, 60, 3, 61, 28, 27, 163, 0, 46, 42, 42, 180, 0, 47, 42]
abbrev dktX0_endOf_0 : List UInt8 := dkwX0_endOf_0 ++ dktX0_endOf_1
theorem dksX0_endOf_0 : cX0_endOf.data.toList.drop 0 = dktX0_endOf_0 := by decide +kernel
theorem dksX0_endOf_1 : cX0_endOf.data.toList.drop 23 = dktX0_endOf_1 := dk_seg dksX0_endOf_0 23 rfl rfl
theorem dksX0_endOf_2 : cX0_endOf.data.toList.drop 47 = dktX0_endOf_2 := dk_seg dksX0_endOf_1 24 rfl rfl
theorem dX0_endOf_0 : decode cX0_endOf 0 = .ok (.iconst 2, 1) := dk_5 (dk_at dksX0_endOf_0 0 rfl rfl)
theorem dX0_endOf_1 : decode cX0_endOf 1 = .ok (.aload_n 0, 1) := dk_42 (dk_at dksX0_endOf_0 1 rfl rfl)
theorem dX0_endOf_2 : decode cX0_endOf 2 = .ok (.getfield 329, 3) := dk_180 1 73 (dk_at dksX0_endOf_0 2 rfl rfl)
theorem dX0_endOf_5 : decode cX0_endOf 5 = .ok (.invokestatic 326, 3) := dk_184 1 70 (dk_at dksX0_endOf_0 5 rfl rfl)
theorem dX0_endOf_8 : decode cX0_endOf 8 = .ok (.imul, 1) := dk_104 (dk_at dksX0_endOf_0 8 rfl rfl)
theorem dX0_endOf_9 : decode cX0_endOf 9 = .ok (.istore_n 1, 1) := dk_60 (dk_at dksX0_endOf_0 9 rfl rfl)
theorem dX0_endOf_10 : decode cX0_endOf 10 = .ok (.iconst 0, 1) := dk_3 (dk_at dksX0_endOf_0 10 rfl rfl)
theorem dX0_endOf_11 : decode cX0_endOf 11 = .ok (.istore_n 2, 1) := dk_61 (dk_at dksX0_endOf_0 11 rfl rfl)
theorem dX0_endOf_12 : decode cX0_endOf 12 = .ok (.iload_n 2, 1) := dk_28 (dk_at dksX0_endOf_0 12 rfl rfl)
theorem dX0_endOf_13 : decode cX0_endOf 13 = .ok (.iload_n 1, 1) := dk_27 (dk_at dksX0_endOf_0 13 rfl rfl)
theorem dX0_endOf_14 : decode cX0_endOf 14 = .ok (.if_icmp .gt 46, 3) := dk_163 0 46 (dk_at dksX0_endOf_0 14 rfl rfl)
theorem dX0_endOf_17 : decode cX0_endOf 17 = .ok (.aload_n 0, 1) := dk_42 (dk_at dksX0_endOf_0 17 rfl rfl)
theorem dX0_endOf_18 : decode cX0_endOf 18 = .ok (.aload_n 0, 1) := dk_42 (dk_at dksX0_endOf_0 18 rfl rfl)
theorem dX0_endOf_19 : decode cX0_endOf 19 = .ok (.getfield 47, 3) := dk_180 0 47 (dk_at dksX0_endOf_0 19 rfl rfl)
theorem dX0_endOf_22 : decode cX0_endOf 22 = .ok (.aload_n 0, 1) := dk_42 (dk_at dksX0_endOf_0 22 rfl rfl)
theorem dX0_endOf_23 : decode cX0_endOf 23 = .ok (.getfield 329, 3) := dk_180 1 73 (dk_at dksX0_endOf_1 0 rfl rfl)
theorem dX0_endOf_26 : decode cX0_endOf 26 = .ok (.invokevirtual 309, 3) := dk_182 1 53 (dk_at dksX0_endOf_1 3 rfl rfl)
theorem dX0_endOf_29 : decode cX0_endOf 29 = .ok (.ifCond .eq 8, 3) := dk_153 0 8 (dk_at dksX0_endOf_1 6 rfl rfl)
theorem dX0_endOf_32 : decode cX0_endOf 32 = .ok (.aload_n 0, 1) := dk_42 (dk_at dksX0_endOf_1 9 rfl rfl)
theorem dX0_endOf_33 : decode cX0_endOf 33 = .ok (.invokevirtual 348, 3) := dk_182 1 92 (dk_at dksX0_endOf_1 10 rfl rfl)
theorem dX0_endOf_36 : decode cX0_endOf 36 = .ok (.ireturn, 1) := dk_172 (dk_at dksX0_endOf_1 13 rfl rfl)
theorem dX0_endOf_37 : decode cX0_endOf 37 = .ok (.aload_n 0, 1) := dk_42 (dk_at dksX0_endOf_1 14 rfl rfl)
theorem dX0_endOf_38 : decode cX0_endOf 38 = .ok (.aload_n 0, 1) := dk_42 (dk_at dksX0_endOf_1 15 rfl rfl)
theorem dX0_endOf_39 : decode cX0_endOf 39 = .ok (.getfield 47, 3) := dk_180 0 47 (dk_at dksX0_endOf_1 16 rfl rfl)
theorem dX0_endOf_42 : decode cX0_endOf 42 = .ok (.iconst 0, 1) := dk_3 (dk_at dksX0_endOf_1 19 rfl rfl)
theorem dX0_endOf_43 : decode cX0_endOf 43 = .ok (.aload_n 0, 1) := dk_42 (dk_at dksX0_endOf_1 20 rfl rfl)
theorem dX0_endOf_44 : decode cX0_endOf 44 = .ok (.getfield 329, 3) := dk_180 1 73 (dk_at dksX0_endOf_1 21 rfl rfl)
theorem dX0_endOf_47 : decode cX0_endOf 47 = .ok (.iload_n 2, 1) := dk_28 (dk_at dksX0_endOf_2 0 rfl rfl)
theorem dX0_endOf_48 : decode cX0_endOf 48 = .ok (.iconst 2, 1) := dk_5 (dk_at dksX0_endOf_2 1 rfl rfl)
theorem dX0_endOf_49 : decode cX0_endOf 49 = .ok (.irem, 1) := dk_112 (dk_at dksX0_endOf_2 2 rfl rfl)
theorem dX0_endOf_50 : decode cX0_endOf 50 = .ok (.invokevirtual 227, 3) := dk_182 0 227 (dk_at dksX0_endOf_2 3 rfl rfl)
theorem dX0_endOf_53 : decode cX0_endOf 53 = .ok (.istore_n 3, 1) := dk_62 (dk_at dksX0_endOf_2 6 rfl rfl)
theorem dX0_endOf_54 : decode cX0_endOf 54 = .ok (.iinc 2 1, 3) := dk_132 2 1 (dk_at dksX0_endOf_2 7 rfl rfl)
theorem dX0_endOf_57 : decode cX0_endOf 57 = .ok (.goto (-45), 3) := dk_167 255 211 (dk_at dksX0_endOf_2 10 rfl rfl)
theorem dX0_endOf_60 : decode cX0_endOf 60 = .ok (.iconst (-1), 1) := dk_2 (dk_at dksX0_endOf_2 13 rfl rfl)
theorem dX0_endOf_61 : decode cX0_endOf 61 = .ok (.ireturn, 1) := dk_172 (dk_at dksX0_endOf_2 14 rfl rfl)
abbrev MX0_endOf : jjM := (yX0_endOf, cX0_endOf, 4, (Option.some Jvm.ClassFile.FieldType.int))
theorem npX0_endOf : yX0_endOf.cls ≠ "java/lang/invoke/MethodHandle" ∧ yX0_endOf.cls ≠ "java/lang/invoke/VarHandle" ∧ (parseMethodDescriptor yX0_endOf.desc).map (fun d => d.parameters.length) = some 0 := by decide +kernel
abbrev cX0_numberOf : ByteArray := prog_1_method_54_code
def yX0_numberOf : MethodName := ⟨RX0, "numberOf", "()I"⟩
def dkwX0_numberOf_3 : List UInt8 := [132, 2, 1, 167, 255, 188, 27, 172]
abbrev dktX0_numberOf_3 : List UInt8 := dkwX0_numberOf_3 ++ []
def dkwX0_numberOf_2 : List UInt8 := [167, 0, 4, 3, 96, 62, 132, 4, 1, 167, 255, 220, 27, 42, 180, 1, 73, 28, 100, 104, 29, 96, 60]
abbrev dktX0_numberOf_2 : List UInt8 := dkwX0_numberOf_2 ++ dktX0_numberOf_3
def dkwX0_numberOf_1 : List UInt8 := [180, 1, 73, 162, 0, 33, 29, 42, 180, 0, 47, 21, 4, 46, 42, 180, 0, 47, 28, 46, 162, 0, 7, 4]
abbrev dktX0_numberOf_1 : List UInt8 := dkwX0_numberOf_1 ++ dktX0_numberOf_2
def dkwX0_numberOf_0 : List UInt8 := [3, 60, 3, 61, 28, 42, 180, 1, 73, 162, 0, 66, 3, 62, 28, 4, 96, 54, 4, 21, 4, 42]
abbrev dktX0_numberOf_0 : List UInt8 := dkwX0_numberOf_0 ++ dktX0_numberOf_1
theorem dksX0_numberOf_0 : cX0_numberOf.data.toList.drop 0 = dktX0_numberOf_0 := by decide +kernel
theorem dksX0_numberOf_1 : cX0_numberOf.data.toList.drop 22 = dktX0_numberOf_1 := dk_seg dksX0_numberOf_0 22 rfl rfl
theorem dksX0_numberOf_2 : cX0_numberOf.data.toList.drop 46 = dktX0_numberOf_2 := dk_seg dksX0_numberOf_1 24 rfl rfl
theorem dksX0_numberOf_3 : cX0_numberOf.data.toList.drop 69 = dktX0_numberOf_3 := dk_seg dksX0_numberOf_2 23 rfl rfl
theorem dX0_numberOf_0 : decode cX0_numberOf 0 = .ok (.iconst 0, 1) := dk_3 (dk_at dksX0_numberOf_0 0 rfl rfl)
theorem dX0_numberOf_1 : decode cX0_numberOf 1 = .ok (.istore_n 1, 1) := dk_60 (dk_at dksX0_numberOf_0 1 rfl rfl)
theorem dX0_numberOf_2 : decode cX0_numberOf 2 = .ok (.iconst 0, 1) := dk_3 (dk_at dksX0_numberOf_0 2 rfl rfl)
theorem dX0_numberOf_3 : decode cX0_numberOf 3 = .ok (.istore_n 2, 1) := dk_61 (dk_at dksX0_numberOf_0 3 rfl rfl)
theorem dX0_numberOf_4 : decode cX0_numberOf 4 = .ok (.iload_n 2, 1) := dk_28 (dk_at dksX0_numberOf_0 4 rfl rfl)
theorem dX0_numberOf_5 : decode cX0_numberOf 5 = .ok (.aload_n 0, 1) := dk_42 (dk_at dksX0_numberOf_0 5 rfl rfl)
theorem dX0_numberOf_6 : decode cX0_numberOf 6 = .ok (.getfield 329, 3) := dk_180 1 73 (dk_at dksX0_numberOf_0 6 rfl rfl)
theorem dX0_numberOf_9 : decode cX0_numberOf 9 = .ok (.if_icmp .ge 66, 3) := dk_162 0 66 (dk_at dksX0_numberOf_0 9 rfl rfl)
theorem dX0_numberOf_12 : decode cX0_numberOf 12 = .ok (.iconst 0, 1) := dk_3 (dk_at dksX0_numberOf_0 12 rfl rfl)
theorem dX0_numberOf_13 : decode cX0_numberOf 13 = .ok (.istore_n 3, 1) := dk_62 (dk_at dksX0_numberOf_0 13 rfl rfl)
theorem dX0_numberOf_14 : decode cX0_numberOf 14 = .ok (.iload_n 2, 1) := dk_28 (dk_at dksX0_numberOf_0 14 rfl rfl)
theorem dX0_numberOf_15 : decode cX0_numberOf 15 = .ok (.iconst 1, 1) := dk_4 (dk_at dksX0_numberOf_0 15 rfl rfl)
theorem dX0_numberOf_16 : decode cX0_numberOf 16 = .ok (.iadd, 1) := dk_96 (dk_at dksX0_numberOf_0 16 rfl rfl)
theorem dX0_numberOf_17 : decode cX0_numberOf 17 = .ok (.istore 4, 2) := dk_54 4 (dk_at dksX0_numberOf_0 17 rfl rfl)
theorem dX0_numberOf_19 : decode cX0_numberOf 19 = .ok (.iload 4, 2) := dk_21 4 (dk_at dksX0_numberOf_0 19 rfl rfl)
theorem dX0_numberOf_21 : decode cX0_numberOf 21 = .ok (.aload_n 0, 1) := dk_42 (dk_at dksX0_numberOf_0 21 rfl rfl)
theorem dX0_numberOf_22 : decode cX0_numberOf 22 = .ok (.getfield 329, 3) := dk_180 1 73 (dk_at dksX0_numberOf_1 0 rfl rfl)
theorem dX0_numberOf_25 : decode cX0_numberOf 25 = .ok (.if_icmp .ge 33, 3) := dk_162 0 33 (dk_at dksX0_numberOf_1 3 rfl rfl)
theorem dX0_numberOf_28 : decode cX0_numberOf 28 = .ok (.iload_n 3, 1) := dk_29 (dk_at dksX0_numberOf_1 6 rfl rfl)
theorem dX0_numberOf_29 : decode cX0_numberOf 29 = .ok (.aload_n 0, 1) := dk_42 (dk_at dksX0_numberOf_1 7 rfl rfl)
theorem dX0_numberOf_30 : decode cX0_numberOf 30 = .ok (.getfield 47, 3) := dk_180 0 47 (dk_at dksX0_numberOf_1 8 rfl rfl)
theorem dX0_numberOf_33 : decode cX0_numberOf 33 = .ok (.iload 4, 2) := dk_21 4 (dk_at dksX0_numberOf_1 11 rfl rfl)
theorem dX0_numberOf_35 : decode cX0_numberOf 35 = .ok (.iaload, 1) := dk_46 (dk_at dksX0_numberOf_1 13 rfl rfl)
theorem dX0_numberOf_36 : decode cX0_numberOf 36 = .ok (.aload_n 0, 1) := dk_42 (dk_at dksX0_numberOf_1 14 rfl rfl)
theorem dX0_numberOf_37 : decode cX0_numberOf 37 = .ok (.getfield 47, 3) := dk_180 0 47 (dk_at dksX0_numberOf_1 15 rfl rfl)
theorem dX0_numberOf_40 : decode cX0_numberOf 40 = .ok (.iload_n 2, 1) := dk_28 (dk_at dksX0_numberOf_1 18 rfl rfl)
theorem dX0_numberOf_41 : decode cX0_numberOf 41 = .ok (.iaload, 1) := dk_46 (dk_at dksX0_numberOf_1 19 rfl rfl)
theorem dX0_numberOf_42 : decode cX0_numberOf 42 = .ok (.if_icmp .ge 7, 3) := dk_162 0 7 (dk_at dksX0_numberOf_1 20 rfl rfl)
theorem dX0_numberOf_45 : decode cX0_numberOf 45 = .ok (.iconst 1, 1) := dk_4 (dk_at dksX0_numberOf_1 23 rfl rfl)
theorem dX0_numberOf_46 : decode cX0_numberOf 46 = .ok (.goto 4, 3) := dk_167 0 4 (dk_at dksX0_numberOf_2 0 rfl rfl)
theorem dX0_numberOf_49 : decode cX0_numberOf 49 = .ok (.iconst 0, 1) := dk_3 (dk_at dksX0_numberOf_2 3 rfl rfl)
theorem dX0_numberOf_50 : decode cX0_numberOf 50 = .ok (.iadd, 1) := dk_96 (dk_at dksX0_numberOf_2 4 rfl rfl)
theorem dX0_numberOf_51 : decode cX0_numberOf 51 = .ok (.istore_n 3, 1) := dk_62 (dk_at dksX0_numberOf_2 5 rfl rfl)
theorem dX0_numberOf_52 : decode cX0_numberOf 52 = .ok (.iinc 4 1, 3) := dk_132 4 1 (dk_at dksX0_numberOf_2 6 rfl rfl)
theorem dX0_numberOf_55 : decode cX0_numberOf 55 = .ok (.goto (-36), 3) := dk_167 255 220 (dk_at dksX0_numberOf_2 9 rfl rfl)
theorem dX0_numberOf_58 : decode cX0_numberOf 58 = .ok (.iload_n 1, 1) := dk_27 (dk_at dksX0_numberOf_2 12 rfl rfl)
theorem dX0_numberOf_59 : decode cX0_numberOf 59 = .ok (.aload_n 0, 1) := dk_42 (dk_at dksX0_numberOf_2 13 rfl rfl)
theorem dX0_numberOf_60 : decode cX0_numberOf 60 = .ok (.getfield 329, 3) := dk_180 1 73 (dk_at dksX0_numberOf_2 14 rfl rfl)
theorem dX0_numberOf_63 : decode cX0_numberOf 63 = .ok (.iload_n 2, 1) := dk_28 (dk_at dksX0_numberOf_2 17 rfl rfl)
theorem dX0_numberOf_64 : decode cX0_numberOf 64 = .ok (.isub, 1) := dk_100 (dk_at dksX0_numberOf_2 18 rfl rfl)
theorem dX0_numberOf_65 : decode cX0_numberOf 65 = .ok (.imul, 1) := dk_104 (dk_at dksX0_numberOf_2 19 rfl rfl)
theorem dX0_numberOf_66 : decode cX0_numberOf 66 = .ok (.iload_n 3, 1) := dk_29 (dk_at dksX0_numberOf_2 20 rfl rfl)
theorem dX0_numberOf_67 : decode cX0_numberOf 67 = .ok (.iadd, 1) := dk_96 (dk_at dksX0_numberOf_2 21 rfl rfl)
theorem dX0_numberOf_68 : decode cX0_numberOf 68 = .ok (.istore_n 1, 1) := dk_60 (dk_at dksX0_numberOf_2 22 rfl rfl)
theorem dX0_numberOf_69 : decode cX0_numberOf 69 = .ok (.iinc 2 1, 3) := dk_132 2 1 (dk_at dksX0_numberOf_3 0 rfl rfl)
theorem dX0_numberOf_72 : decode cX0_numberOf 72 = .ok (.goto (-68), 3) := dk_167 255 188 (dk_at dksX0_numberOf_3 3 rfl rfl)
theorem dX0_numberOf_75 : decode cX0_numberOf 75 = .ok (.iload_n 1, 1) := dk_27 (dk_at dksX0_numberOf_3 6 rfl rfl)
theorem dX0_numberOf_76 : decode cX0_numberOf 76 = .ok (.ireturn, 1) := dk_172 (dk_at dksX0_numberOf_3 7 rfl rfl)
abbrev MX0_numberOf : jjM := (yX0_numberOf, cX0_numberOf, 5, (Option.some Jvm.ClassFile.FieldType.int))
theorem npX0_numberOf : yX0_numberOf.cls ≠ "java/lang/invoke/MethodHandle" ∧ yX0_numberOf.cls ≠ "java/lang/invoke/VarHandle" ∧ (parseMethodDescriptor yX0_numberOf.desc).map (fun d => d.parameters.length) = some 0 := by decide +kernel
abbrev cX0_never : ByteArray := prog_1_method_60_code
def yX0_never : MethodName := ⟨RX0, "never", "(I)I"⟩
def dkwX0_never_0 : List UInt8 := [42, 27, 16, 6, 182, 1, 86, 154, 0, 5, 2, 172, 42, 182, 0, 235, 42, 2, 182, 1, 98, 172]
abbrev dktX0_never_0 : List UInt8 := dkwX0_never_0 ++ []
theorem dksX0_never_0 : cX0_never.data.toList.drop 0 = dktX0_never_0 := by decide +kernel
theorem dX0_never_0 : decode cX0_never 0 = .ok (.aload_n 0, 1) := dk_42 (dk_at dksX0_never_0 0 rfl rfl)
theorem dX0_never_1 : decode cX0_never 1 = .ok (.iload_n 1, 1) := dk_27 (dk_at dksX0_never_0 1 rfl rfl)
theorem dX0_never_2 : decode cX0_never 2 = .ok (.bipush 6, 2) := dk_16 6 (dk_at dksX0_never_0 2 rfl rfl)
theorem dX0_never_4 : decode cX0_never 4 = .ok (.invokevirtual 342, 3) := dk_182 1 86 (dk_at dksX0_never_0 4 rfl rfl)
theorem dX0_never_7 : decode cX0_never 7 = .ok (.ifCond .ne 5, 3) := dk_154 0 5 (dk_at dksX0_never_0 7 rfl rfl)
theorem dX0_never_10 : decode cX0_never 10 = .ok (.iconst (-1), 1) := dk_2 (dk_at dksX0_never_0 10 rfl rfl)
theorem dX0_never_11 : decode cX0_never 11 = .ok (.ireturn, 1) := dk_172 (dk_at dksX0_never_0 11 rfl rfl)
theorem dX0_never_12 : decode cX0_never 12 = .ok (.aload_n 0, 1) := dk_42 (dk_at dksX0_never_0 12 rfl rfl)
theorem dX0_never_13 : decode cX0_never 13 = .ok (.invokevirtual 235, 3) := dk_182 0 235 (dk_at dksX0_never_0 13 rfl rfl)
theorem dX0_never_16 : decode cX0_never 16 = .ok (.aload_n 0, 1) := dk_42 (dk_at dksX0_never_0 16 rfl rfl)
theorem dX0_never_17 : decode cX0_never 17 = .ok (.iconst (-1), 1) := dk_2 (dk_at dksX0_never_0 17 rfl rfl)
theorem dX0_never_18 : decode cX0_never 18 = .ok (.invokevirtual 354, 3) := dk_182 1 98 (dk_at dksX0_never_0 18 rfl rfl)
theorem dX0_never_21 : decode cX0_never 21 = .ok (.ireturn, 1) := dk_172 (dk_at dksX0_never_0 21 rfl rfl)
abbrev MX0_never : jjM := (yX0_never, cX0_never, 2, (Option.some Jvm.ClassFile.FieldType.int))
theorem npX0_never : yX0_never.cls ≠ "java/lang/invoke/MethodHandle" ∧ yX0_never.cls ≠ "java/lang/invoke/VarHandle" ∧ (parseMethodDescriptor yX0_never.desc).map (fun d => d.parameters.length) = some 1 := by decide +kernel
abbrev cX0_trouble : ByteArray := prog_1_method_62_code
def yX0_trouble : MethodName := ⟨RX0, "trouble", "()I"⟩
def dkwX0_trouble_2 : List UInt8 := [182, 1, 101, 153, 0, 5, 28, 172, 132, 2, 1, 167, 255, 211, 132, 1, 1, 167, 255, 197, 2, 172]
abbrev dktX0_trouble_2 : List UInt8 := dkwX0_trouble_2 ++ []
def dkwX0_trouble_1 : List UInt8 := [46, 120, 162, 0, 36, 28, 184, 1, 75, 27, 160, 0, 22, 42, 28, 16, 6, 182, 1, 86, 153, 0, 12, 42]
abbrev dktX0_trouble_1 : List UInt8 := dkwX0_trouble_1 ++ dktX0_trouble_2
def dkwX0_trouble_0 : List UInt8 := [42, 182, 0, 235, 5, 60, 27, 16, 6, 162, 0, 59, 4, 61, 28, 4, 42, 180, 0, 12, 180, 0, 71, 3]
abbrev dktX0_trouble_0 : List UInt8 := dkwX0_trouble_0 ++ dktX0_trouble_1
theorem dksX0_trouble_0 : cX0_trouble.data.toList.drop 0 = dktX0_trouble_0 := by decide +kernel
theorem dksX0_trouble_1 : cX0_trouble.data.toList.drop 24 = dktX0_trouble_1 := dk_seg dksX0_trouble_0 24 rfl rfl
theorem dksX0_trouble_2 : cX0_trouble.data.toList.drop 48 = dktX0_trouble_2 := dk_seg dksX0_trouble_1 24 rfl rfl
theorem dX0_trouble_0 : decode cX0_trouble 0 = .ok (.aload_n 0, 1) := dk_42 (dk_at dksX0_trouble_0 0 rfl rfl)
theorem dX0_trouble_1 : decode cX0_trouble 1 = .ok (.invokevirtual 235, 3) := dk_182 0 235 (dk_at dksX0_trouble_0 1 rfl rfl)
theorem dX0_trouble_4 : decode cX0_trouble 4 = .ok (.iconst 2, 1) := dk_5 (dk_at dksX0_trouble_0 4 rfl rfl)
theorem dX0_trouble_5 : decode cX0_trouble 5 = .ok (.istore_n 1, 1) := dk_60 (dk_at dksX0_trouble_0 5 rfl rfl)
theorem dX0_trouble_6 : decode cX0_trouble 6 = .ok (.iload_n 1, 1) := dk_27 (dk_at dksX0_trouble_0 6 rfl rfl)
theorem dX0_trouble_7 : decode cX0_trouble 7 = .ok (.bipush 6, 2) := dk_16 6 (dk_at dksX0_trouble_0 7 rfl rfl)
theorem dX0_trouble_9 : decode cX0_trouble 9 = .ok (.if_icmp .ge 59, 3) := dk_162 0 59 (dk_at dksX0_trouble_0 9 rfl rfl)
theorem dX0_trouble_12 : decode cX0_trouble 12 = .ok (.iconst 1, 1) := dk_4 (dk_at dksX0_trouble_0 12 rfl rfl)
theorem dX0_trouble_13 : decode cX0_trouble 13 = .ok (.istore_n 2, 1) := dk_61 (dk_at dksX0_trouble_0 13 rfl rfl)
theorem dX0_trouble_14 : decode cX0_trouble 14 = .ok (.iload_n 2, 1) := dk_28 (dk_at dksX0_trouble_0 14 rfl rfl)
theorem dX0_trouble_15 : decode cX0_trouble 15 = .ok (.iconst 1, 1) := dk_4 (dk_at dksX0_trouble_0 15 rfl rfl)
theorem dX0_trouble_16 : decode cX0_trouble 16 = .ok (.aload_n 0, 1) := dk_42 (dk_at dksX0_trouble_0 16 rfl rfl)
theorem dX0_trouble_17 : decode cX0_trouble 17 = .ok (.getfield 12, 3) := dk_180 0 12 (dk_at dksX0_trouble_0 17 rfl rfl)
theorem dX0_trouble_20 : decode cX0_trouble 20 = .ok (.getfield 71, 3) := dk_180 0 71 (dk_at dksX0_trouble_0 20 rfl rfl)
theorem dX0_trouble_23 : decode cX0_trouble 23 = .ok (.iconst 0, 1) := dk_3 (dk_at dksX0_trouble_0 23 rfl rfl)
theorem dX0_trouble_24 : decode cX0_trouble 24 = .ok (.iaload, 1) := dk_46 (dk_at dksX0_trouble_1 0 rfl rfl)
theorem dX0_trouble_25 : decode cX0_trouble 25 = .ok (.ishl, 1) := dk_120 (dk_at dksX0_trouble_1 1 rfl rfl)
theorem dX0_trouble_26 : decode cX0_trouble 26 = .ok (.if_icmp .ge 36, 3) := dk_162 0 36 (dk_at dksX0_trouble_1 2 rfl rfl)
theorem dX0_trouble_29 : decode cX0_trouble 29 = .ok (.iload_n 2, 1) := dk_28 (dk_at dksX0_trouble_1 5 rfl rfl)
theorem dX0_trouble_30 : decode cX0_trouble 30 = .ok (.invokestatic 331, 3) := dk_184 1 75 (dk_at dksX0_trouble_1 6 rfl rfl)
theorem dX0_trouble_33 : decode cX0_trouble 33 = .ok (.iload_n 1, 1) := dk_27 (dk_at dksX0_trouble_1 9 rfl rfl)
theorem dX0_trouble_34 : decode cX0_trouble 34 = .ok (.if_icmp .ne 22, 3) := dk_160 0 22 (dk_at dksX0_trouble_1 10 rfl rfl)
theorem dX0_trouble_37 : decode cX0_trouble 37 = .ok (.aload_n 0, 1) := dk_42 (dk_at dksX0_trouble_1 13 rfl rfl)
theorem dX0_trouble_38 : decode cX0_trouble 38 = .ok (.iload_n 2, 1) := dk_28 (dk_at dksX0_trouble_1 14 rfl rfl)
theorem dX0_trouble_39 : decode cX0_trouble 39 = .ok (.bipush 6, 2) := dk_16 6 (dk_at dksX0_trouble_1 15 rfl rfl)
theorem dX0_trouble_41 : decode cX0_trouble 41 = .ok (.invokevirtual 342, 3) := dk_182 1 86 (dk_at dksX0_trouble_1 17 rfl rfl)
theorem dX0_trouble_44 : decode cX0_trouble 44 = .ok (.ifCond .eq 12, 3) := dk_153 0 12 (dk_at dksX0_trouble_1 20 rfl rfl)
theorem dX0_trouble_47 : decode cX0_trouble 47 = .ok (.aload_n 0, 1) := dk_42 (dk_at dksX0_trouble_1 23 rfl rfl)
theorem dX0_trouble_48 : decode cX0_trouble 48 = .ok (.invokevirtual 357, 3) := dk_182 1 101 (dk_at dksX0_trouble_2 0 rfl rfl)
theorem dX0_trouble_51 : decode cX0_trouble 51 = .ok (.ifCond .eq 5, 3) := dk_153 0 5 (dk_at dksX0_trouble_2 3 rfl rfl)
theorem dX0_trouble_54 : decode cX0_trouble 54 = .ok (.iload_n 2, 1) := dk_28 (dk_at dksX0_trouble_2 6 rfl rfl)
theorem dX0_trouble_55 : decode cX0_trouble 55 = .ok (.ireturn, 1) := dk_172 (dk_at dksX0_trouble_2 7 rfl rfl)
theorem dX0_trouble_56 : decode cX0_trouble 56 = .ok (.iinc 2 1, 3) := dk_132 2 1 (dk_at dksX0_trouble_2 8 rfl rfl)
theorem dX0_trouble_59 : decode cX0_trouble 59 = .ok (.goto (-45), 3) := dk_167 255 211 (dk_at dksX0_trouble_2 11 rfl rfl)
theorem dX0_trouble_62 : decode cX0_trouble 62 = .ok (.iinc 1 1, 3) := dk_132 1 1 (dk_at dksX0_trouble_2 14 rfl rfl)
theorem dX0_trouble_65 : decode cX0_trouble 65 = .ok (.goto (-59), 3) := dk_167 255 197 (dk_at dksX0_trouble_2 17 rfl rfl)
theorem dX0_trouble_68 : decode cX0_trouble 68 = .ok (.iconst (-1), 1) := dk_2 (dk_at dksX0_trouble_2 20 rfl rfl)
theorem dX0_trouble_69 : decode cX0_trouble 69 = .ok (.ireturn, 1) := dk_172 (dk_at dksX0_trouble_2 21 rfl rfl)
abbrev MX0_trouble : jjM := (yX0_trouble, cX0_trouble, 3, (Option.some Jvm.ClassFile.FieldType.int))
theorem npX0_trouble : yX0_trouble.cls ≠ "java/lang/invoke/MethodHandle" ∧ yX0_trouble.cls ≠ "java/lang/invoke/VarHandle" ∧ (parseMethodDescriptor yX0_trouble.desc).map (fun d => d.parameters.length) = some 0 := by decide +kernel
abbrev cX0_isTrouble : ByteArray := prog_1_method_61_code
def yX0_isTrouble : MethodName := ⟨RX0, "isTrouble", "()Z"⟩
def dkwX0_isTrouble_1 : List UInt8 := [160, 0, 5, 4, 172, 132, 1, 1, 167, 255, 227, 3, 172]
abbrev dktX0_isTrouble_1 : List UInt8 := dkwX0_isTrouble_1 ++ []
def dkwX0_isTrouble_0 : List UInt8 := [3, 60, 27, 42, 180, 1, 73, 184, 1, 70, 162, 0, 24, 42, 27, 182, 1, 83, 42, 182, 1, 95, 2]
abbrev dktX0_isTrouble_0 : List UInt8 := dkwX0_isTrouble_0 ++ dktX0_isTrouble_1
theorem dksX0_isTrouble_0 : cX0_isTrouble.data.toList.drop 0 = dktX0_isTrouble_0 := by decide +kernel
theorem dksX0_isTrouble_1 : cX0_isTrouble.data.toList.drop 23 = dktX0_isTrouble_1 := dk_seg dksX0_isTrouble_0 23 rfl rfl
theorem dX0_isTrouble_0 : decode cX0_isTrouble 0 = .ok (.iconst 0, 1) := dk_3 (dk_at dksX0_isTrouble_0 0 rfl rfl)
theorem dX0_isTrouble_1 : decode cX0_isTrouble 1 = .ok (.istore_n 1, 1) := dk_60 (dk_at dksX0_isTrouble_0 1 rfl rfl)
theorem dX0_isTrouble_2 : decode cX0_isTrouble 2 = .ok (.iload_n 1, 1) := dk_27 (dk_at dksX0_isTrouble_0 2 rfl rfl)
theorem dX0_isTrouble_3 : decode cX0_isTrouble 3 = .ok (.aload_n 0, 1) := dk_42 (dk_at dksX0_isTrouble_0 3 rfl rfl)
theorem dX0_isTrouble_4 : decode cX0_isTrouble 4 = .ok (.getfield 329, 3) := dk_180 1 73 (dk_at dksX0_isTrouble_0 4 rfl rfl)
theorem dX0_isTrouble_7 : decode cX0_isTrouble 7 = .ok (.invokestatic 326, 3) := dk_184 1 70 (dk_at dksX0_isTrouble_0 7 rfl rfl)
theorem dX0_isTrouble_10 : decode cX0_isTrouble 10 = .ok (.if_icmp .ge 24, 3) := dk_162 0 24 (dk_at dksX0_isTrouble_0 10 rfl rfl)
theorem dX0_isTrouble_13 : decode cX0_isTrouble 13 = .ok (.aload_n 0, 1) := dk_42 (dk_at dksX0_isTrouble_0 13 rfl rfl)
theorem dX0_isTrouble_14 : decode cX0_isTrouble 14 = .ok (.iload_n 1, 1) := dk_27 (dk_at dksX0_isTrouble_0 14 rfl rfl)
theorem dX0_isTrouble_15 : decode cX0_isTrouble 15 = .ok (.invokevirtual 339, 3) := dk_182 1 83 (dk_at dksX0_isTrouble_0 15 rfl rfl)
theorem dX0_isTrouble_18 : decode cX0_isTrouble 18 = .ok (.aload_n 0, 1) := dk_42 (dk_at dksX0_isTrouble_0 18 rfl rfl)
theorem dX0_isTrouble_19 : decode cX0_isTrouble 19 = .ok (.invokevirtual 351, 3) := dk_182 1 95 (dk_at dksX0_isTrouble_0 19 rfl rfl)
theorem dX0_isTrouble_22 : decode cX0_isTrouble 22 = .ok (.iconst (-1), 1) := dk_2 (dk_at dksX0_isTrouble_0 22 rfl rfl)
theorem dX0_isTrouble_23 : decode cX0_isTrouble 23 = .ok (.if_icmp .ne 5, 3) := dk_160 0 5 (dk_at dksX0_isTrouble_1 0 rfl rfl)
theorem dX0_isTrouble_26 : decode cX0_isTrouble 26 = .ok (.iconst 1, 1) := dk_4 (dk_at dksX0_isTrouble_1 3 rfl rfl)
theorem dX0_isTrouble_27 : decode cX0_isTrouble 27 = .ok (.ireturn, 1) := dk_172 (dk_at dksX0_isTrouble_1 4 rfl rfl)
theorem dX0_isTrouble_28 : decode cX0_isTrouble 28 = .ok (.iinc 1 1, 3) := dk_132 1 1 (dk_at dksX0_isTrouble_1 5 rfl rfl)
theorem dX0_isTrouble_31 : decode cX0_isTrouble 31 = .ok (.goto (-29), 3) := dk_167 255 227 (dk_at dksX0_isTrouble_1 8 rfl rfl)
theorem dX0_isTrouble_34 : decode cX0_isTrouble 34 = .ok (.iconst 0, 1) := dk_3 (dk_at dksX0_isTrouble_1 11 rfl rfl)
theorem dX0_isTrouble_35 : decode cX0_isTrouble 35 = .ok (.ireturn, 1) := dk_172 (dk_at dksX0_isTrouble_1 12 rfl rfl)
abbrev MX0_isTrouble : jjM := (yX0_isTrouble, cX0_isTrouble, 2, (Option.some Jvm.ClassFile.FieldType.boolean))
theorem npX0_isTrouble : yX0_isTrouble.cls ≠ "java/lang/invoke/MethodHandle" ∧ yX0_isTrouble.cls ≠ "java/lang/invoke/VarHandle" ∧ (parseMethodDescriptor yX0_isTrouble.desc).map (fun d => d.parameters.length) = some 0 := by decide +kernel
abbrev cX0_rank : ByteArray := prog_1_method_64_code
def yX0_rank : MethodName := ⟨RX0, "rank", "(II)I"⟩
def dkwX0_rank_2 : List UInt8 := [42, 182, 1, 105, 153, 0, 10, 42, 180, 0, 47, 28, 46, 172, 132, 3, 1, 167, 255, 223, 2, 172]
abbrev dktX0_rank_2 : List UInt8 := dkwX0_rank_2 ++ []
def dkwX0_rank_1 : List UInt8 := [2, 172, 42, 182, 0, 235, 3, 62, 29, 42, 180, 1, 73, 184, 1, 70, 162, 0, 28, 42, 29, 182, 1, 83]
abbrev dktX0_rank_1 : List UInt8 := dkwX0_rank_1 ++ dktX0_rank_2
def dkwX0_rank_0 : List UInt8 := [42, 27, 16, 6, 182, 1, 86, 153, 0, 17, 28, 3, 42, 180, 1, 73, 4, 100, 184, 0, 74, 154, 0, 5]
abbrev dktX0_rank_0 : List UInt8 := dkwX0_rank_0 ++ dktX0_rank_1
theorem dksX0_rank_0 : cX0_rank.data.toList.drop 0 = dktX0_rank_0 := by decide +kernel
theorem dksX0_rank_1 : cX0_rank.data.toList.drop 24 = dktX0_rank_1 := dk_seg dksX0_rank_0 24 rfl rfl
theorem dksX0_rank_2 : cX0_rank.data.toList.drop 48 = dktX0_rank_2 := dk_seg dksX0_rank_1 24 rfl rfl
theorem dX0_rank_0 : decode cX0_rank 0 = .ok (.aload_n 0, 1) := dk_42 (dk_at dksX0_rank_0 0 rfl rfl)
theorem dX0_rank_1 : decode cX0_rank 1 = .ok (.iload_n 1, 1) := dk_27 (dk_at dksX0_rank_0 1 rfl rfl)
theorem dX0_rank_2 : decode cX0_rank 2 = .ok (.bipush 6, 2) := dk_16 6 (dk_at dksX0_rank_0 2 rfl rfl)
theorem dX0_rank_4 : decode cX0_rank 4 = .ok (.invokevirtual 342, 3) := dk_182 1 86 (dk_at dksX0_rank_0 4 rfl rfl)
theorem dX0_rank_7 : decode cX0_rank 7 = .ok (.ifCond .eq 17, 3) := dk_153 0 17 (dk_at dksX0_rank_0 7 rfl rfl)
theorem dX0_rank_10 : decode cX0_rank 10 = .ok (.iload_n 2, 1) := dk_28 (dk_at dksX0_rank_0 10 rfl rfl)
theorem dX0_rank_11 : decode cX0_rank 11 = .ok (.iconst 0, 1) := dk_3 (dk_at dksX0_rank_0 11 rfl rfl)
theorem dX0_rank_12 : decode cX0_rank 12 = .ok (.aload_n 0, 1) := dk_42 (dk_at dksX0_rank_0 12 rfl rfl)
theorem dX0_rank_13 : decode cX0_rank 13 = .ok (.getfield 329, 3) := dk_180 1 73 (dk_at dksX0_rank_0 13 rfl rfl)
theorem dX0_rank_16 : decode cX0_rank 16 = .ok (.iconst 1, 1) := dk_4 (dk_at dksX0_rank_0 16 rfl rfl)
theorem dX0_rank_17 : decode cX0_rank 17 = .ok (.isub, 1) := dk_100 (dk_at dksX0_rank_0 17 rfl rfl)
theorem dX0_rank_18 : decode cX0_rank 18 = .ok (.invokestatic 74, 3) := dk_184 0 74 (dk_at dksX0_rank_0 18 rfl rfl)
theorem dX0_rank_21 : decode cX0_rank 21 = .ok (.ifCond .ne 5, 3) := dk_154 0 5 (dk_at dksX0_rank_0 21 rfl rfl)
theorem dX0_rank_24 : decode cX0_rank 24 = .ok (.iconst (-1), 1) := dk_2 (dk_at dksX0_rank_1 0 rfl rfl)
theorem dX0_rank_25 : decode cX0_rank 25 = .ok (.ireturn, 1) := dk_172 (dk_at dksX0_rank_1 1 rfl rfl)
theorem dX0_rank_26 : decode cX0_rank 26 = .ok (.aload_n 0, 1) := dk_42 (dk_at dksX0_rank_1 2 rfl rfl)
theorem dX0_rank_27 : decode cX0_rank 27 = .ok (.invokevirtual 235, 3) := dk_182 0 235 (dk_at dksX0_rank_1 3 rfl rfl)
theorem dX0_rank_30 : decode cX0_rank 30 = .ok (.iconst 0, 1) := dk_3 (dk_at dksX0_rank_1 6 rfl rfl)
theorem dX0_rank_31 : decode cX0_rank 31 = .ok (.istore_n 3, 1) := dk_62 (dk_at dksX0_rank_1 7 rfl rfl)
theorem dX0_rank_32 : decode cX0_rank 32 = .ok (.iload_n 3, 1) := dk_29 (dk_at dksX0_rank_1 8 rfl rfl)
theorem dX0_rank_33 : decode cX0_rank 33 = .ok (.aload_n 0, 1) := dk_42 (dk_at dksX0_rank_1 9 rfl rfl)
theorem dX0_rank_34 : decode cX0_rank 34 = .ok (.getfield 329, 3) := dk_180 1 73 (dk_at dksX0_rank_1 10 rfl rfl)
theorem dX0_rank_37 : decode cX0_rank 37 = .ok (.invokestatic 326, 3) := dk_184 1 70 (dk_at dksX0_rank_1 13 rfl rfl)
theorem dX0_rank_40 : decode cX0_rank 40 = .ok (.if_icmp .ge 28, 3) := dk_162 0 28 (dk_at dksX0_rank_1 16 rfl rfl)
theorem dX0_rank_43 : decode cX0_rank 43 = .ok (.aload_n 0, 1) := dk_42 (dk_at dksX0_rank_1 19 rfl rfl)
theorem dX0_rank_44 : decode cX0_rank 44 = .ok (.iload_n 3, 1) := dk_29 (dk_at dksX0_rank_1 20 rfl rfl)
theorem dX0_rank_45 : decode cX0_rank 45 = .ok (.invokevirtual 339, 3) := dk_182 1 83 (dk_at dksX0_rank_1 21 rfl rfl)
theorem dX0_rank_48 : decode cX0_rank 48 = .ok (.aload_n 0, 1) := dk_42 (dk_at dksX0_rank_2 0 rfl rfl)
theorem dX0_rank_49 : decode cX0_rank 49 = .ok (.invokevirtual 361, 3) := dk_182 1 105 (dk_at dksX0_rank_2 1 rfl rfl)
theorem dX0_rank_52 : decode cX0_rank 52 = .ok (.ifCond .eq 10, 3) := dk_153 0 10 (dk_at dksX0_rank_2 4 rfl rfl)
theorem dX0_rank_55 : decode cX0_rank 55 = .ok (.aload_n 0, 1) := dk_42 (dk_at dksX0_rank_2 7 rfl rfl)
theorem dX0_rank_56 : decode cX0_rank 56 = .ok (.getfield 47, 3) := dk_180 0 47 (dk_at dksX0_rank_2 8 rfl rfl)
theorem dX0_rank_59 : decode cX0_rank 59 = .ok (.iload_n 2, 1) := dk_28 (dk_at dksX0_rank_2 11 rfl rfl)
theorem dX0_rank_60 : decode cX0_rank 60 = .ok (.iaload, 1) := dk_46 (dk_at dksX0_rank_2 12 rfl rfl)
theorem dX0_rank_61 : decode cX0_rank 61 = .ok (.ireturn, 1) := dk_172 (dk_at dksX0_rank_2 13 rfl rfl)
theorem dX0_rank_62 : decode cX0_rank 62 = .ok (.iinc 3 1, 3) := dk_132 3 1 (dk_at dksX0_rank_2 14 rfl rfl)
theorem dX0_rank_65 : decode cX0_rank 65 = .ok (.goto (-33), 3) := dk_167 255 223 (dk_at dksX0_rank_2 17 rfl rfl)
theorem dX0_rank_68 : decode cX0_rank 68 = .ok (.iconst (-1), 1) := dk_2 (dk_at dksX0_rank_2 20 rfl rfl)
theorem dX0_rank_69 : decode cX0_rank 69 = .ok (.ireturn, 1) := dk_172 (dk_at dksX0_rank_2 21 rfl rfl)
abbrev MX0_rank : jjM := (yX0_rank, cX0_rank, 4, (Option.some Jvm.ClassFile.FieldType.int))
theorem npX0_rank : yX0_rank.cls ≠ "java/lang/invoke/MethodHandle" ∧ yX0_rank.cls ≠ "java/lang/invoke/VarHandle" ∧ (parseMethodDescriptor yX0_rank.desc).map (fun d => d.parameters.length) = some 2 := by decide +kernel
abbrev cX0_isRank : ByteArray := prog_1_method_63_code
def yX0_isRank : MethodName := ⟨RX0, "isRank", "()Z"⟩
def dkwX0_isRank_3 : List UInt8 := [167, 255, 187, 4, 172]
abbrev dktX0_isRank_3 : List UInt8 := dkwX0_isRank_3 ++ []
def dkwX0_isRank_2 : List UInt8 := [42, 180, 0, 47, 27, 46, 182, 0, 206, 154, 0, 5, 3, 172, 132, 2, 1, 167, 255, 205, 132, 1, 1]
abbrev dktX0_isRank_2 : List UInt8 := dkwX0_isRank_2 ++ dktX0_isRank_3
def dkwX0_isRank_1 : List UInt8 := [180, 0, 47, 27, 46, 42, 180, 0, 47, 28, 46, 182, 0, 206, 154, 0, 22, 42, 42, 180, 0, 47, 28, 46]
abbrev dktX0_isRank_1 : List UInt8 := dkwX0_isRank_1 ++ dktX0_isRank_2
def dkwX0_isRank_0 : List UInt8 := [3, 60, 27, 42, 180, 1, 73, 162, 0, 67, 27, 4, 96, 61, 28, 42, 180, 1, 73, 162, 0, 49, 42, 42]
abbrev dktX0_isRank_0 : List UInt8 := dkwX0_isRank_0 ++ dktX0_isRank_1
theorem dksX0_isRank_0 : cX0_isRank.data.toList.drop 0 = dktX0_isRank_0 := by decide +kernel
theorem dksX0_isRank_1 : cX0_isRank.data.toList.drop 24 = dktX0_isRank_1 := dk_seg dksX0_isRank_0 24 rfl rfl
theorem dksX0_isRank_2 : cX0_isRank.data.toList.drop 48 = dktX0_isRank_2 := dk_seg dksX0_isRank_1 24 rfl rfl
theorem dksX0_isRank_3 : cX0_isRank.data.toList.drop 71 = dktX0_isRank_3 := dk_seg dksX0_isRank_2 23 rfl rfl
theorem dX0_isRank_0 : decode cX0_isRank 0 = .ok (.iconst 0, 1) := dk_3 (dk_at dksX0_isRank_0 0 rfl rfl)
theorem dX0_isRank_1 : decode cX0_isRank 1 = .ok (.istore_n 1, 1) := dk_60 (dk_at dksX0_isRank_0 1 rfl rfl)
theorem dX0_isRank_2 : decode cX0_isRank 2 = .ok (.iload_n 1, 1) := dk_27 (dk_at dksX0_isRank_0 2 rfl rfl)
theorem dX0_isRank_3 : decode cX0_isRank 3 = .ok (.aload_n 0, 1) := dk_42 (dk_at dksX0_isRank_0 3 rfl rfl)
theorem dX0_isRank_4 : decode cX0_isRank 4 = .ok (.getfield 329, 3) := dk_180 1 73 (dk_at dksX0_isRank_0 4 rfl rfl)
theorem dX0_isRank_7 : decode cX0_isRank 7 = .ok (.if_icmp .ge 67, 3) := dk_162 0 67 (dk_at dksX0_isRank_0 7 rfl rfl)
theorem dX0_isRank_10 : decode cX0_isRank 10 = .ok (.iload_n 1, 1) := dk_27 (dk_at dksX0_isRank_0 10 rfl rfl)
theorem dX0_isRank_11 : decode cX0_isRank 11 = .ok (.iconst 1, 1) := dk_4 (dk_at dksX0_isRank_0 11 rfl rfl)
theorem dX0_isRank_12 : decode cX0_isRank 12 = .ok (.iadd, 1) := dk_96 (dk_at dksX0_isRank_0 12 rfl rfl)
theorem dX0_isRank_13 : decode cX0_isRank 13 = .ok (.istore_n 2, 1) := dk_61 (dk_at dksX0_isRank_0 13 rfl rfl)
theorem dX0_isRank_14 : decode cX0_isRank 14 = .ok (.iload_n 2, 1) := dk_28 (dk_at dksX0_isRank_0 14 rfl rfl)
theorem dX0_isRank_15 : decode cX0_isRank 15 = .ok (.aload_n 0, 1) := dk_42 (dk_at dksX0_isRank_0 15 rfl rfl)
theorem dX0_isRank_16 : decode cX0_isRank 16 = .ok (.getfield 329, 3) := dk_180 1 73 (dk_at dksX0_isRank_0 16 rfl rfl)
theorem dX0_isRank_19 : decode cX0_isRank 19 = .ok (.if_icmp .ge 49, 3) := dk_162 0 49 (dk_at dksX0_isRank_0 19 rfl rfl)
theorem dX0_isRank_22 : decode cX0_isRank 22 = .ok (.aload_n 0, 1) := dk_42 (dk_at dksX0_isRank_0 22 rfl rfl)
theorem dX0_isRank_23 : decode cX0_isRank 23 = .ok (.aload_n 0, 1) := dk_42 (dk_at dksX0_isRank_0 23 rfl rfl)
theorem dX0_isRank_24 : decode cX0_isRank 24 = .ok (.getfield 47, 3) := dk_180 0 47 (dk_at dksX0_isRank_1 0 rfl rfl)
theorem dX0_isRank_27 : decode cX0_isRank 27 = .ok (.iload_n 1, 1) := dk_27 (dk_at dksX0_isRank_1 3 rfl rfl)
theorem dX0_isRank_28 : decode cX0_isRank 28 = .ok (.iaload, 1) := dk_46 (dk_at dksX0_isRank_1 4 rfl rfl)
theorem dX0_isRank_29 : decode cX0_isRank 29 = .ok (.aload_n 0, 1) := dk_42 (dk_at dksX0_isRank_1 5 rfl rfl)
theorem dX0_isRank_30 : decode cX0_isRank 30 = .ok (.getfield 47, 3) := dk_180 0 47 (dk_at dksX0_isRank_1 6 rfl rfl)
theorem dX0_isRank_33 : decode cX0_isRank 33 = .ok (.iload_n 2, 1) := dk_28 (dk_at dksX0_isRank_1 9 rfl rfl)
theorem dX0_isRank_34 : decode cX0_isRank 34 = .ok (.iaload, 1) := dk_46 (dk_at dksX0_isRank_1 10 rfl rfl)
theorem dX0_isRank_35 : decode cX0_isRank 35 = .ok (.invokevirtual 206, 3) := dk_182 0 206 (dk_at dksX0_isRank_1 11 rfl rfl)
theorem dX0_isRank_38 : decode cX0_isRank 38 = .ok (.ifCond .ne 22, 3) := dk_154 0 22 (dk_at dksX0_isRank_1 14 rfl rfl)
theorem dX0_isRank_41 : decode cX0_isRank 41 = .ok (.aload_n 0, 1) := dk_42 (dk_at dksX0_isRank_1 17 rfl rfl)
theorem dX0_isRank_42 : decode cX0_isRank 42 = .ok (.aload_n 0, 1) := dk_42 (dk_at dksX0_isRank_1 18 rfl rfl)
theorem dX0_isRank_43 : decode cX0_isRank 43 = .ok (.getfield 47, 3) := dk_180 0 47 (dk_at dksX0_isRank_1 19 rfl rfl)
theorem dX0_isRank_46 : decode cX0_isRank 46 = .ok (.iload_n 2, 1) := dk_28 (dk_at dksX0_isRank_1 22 rfl rfl)
theorem dX0_isRank_47 : decode cX0_isRank 47 = .ok (.iaload, 1) := dk_46 (dk_at dksX0_isRank_1 23 rfl rfl)
theorem dX0_isRank_48 : decode cX0_isRank 48 = .ok (.aload_n 0, 1) := dk_42 (dk_at dksX0_isRank_2 0 rfl rfl)
theorem dX0_isRank_49 : decode cX0_isRank 49 = .ok (.getfield 47, 3) := dk_180 0 47 (dk_at dksX0_isRank_2 1 rfl rfl)
theorem dX0_isRank_52 : decode cX0_isRank 52 = .ok (.iload_n 1, 1) := dk_27 (dk_at dksX0_isRank_2 4 rfl rfl)
theorem dX0_isRank_53 : decode cX0_isRank 53 = .ok (.iaload, 1) := dk_46 (dk_at dksX0_isRank_2 5 rfl rfl)
theorem dX0_isRank_54 : decode cX0_isRank 54 = .ok (.invokevirtual 206, 3) := dk_182 0 206 (dk_at dksX0_isRank_2 6 rfl rfl)
theorem dX0_isRank_57 : decode cX0_isRank 57 = .ok (.ifCond .ne 5, 3) := dk_154 0 5 (dk_at dksX0_isRank_2 9 rfl rfl)
theorem dX0_isRank_60 : decode cX0_isRank 60 = .ok (.iconst 0, 1) := dk_3 (dk_at dksX0_isRank_2 12 rfl rfl)
theorem dX0_isRank_61 : decode cX0_isRank 61 = .ok (.ireturn, 1) := dk_172 (dk_at dksX0_isRank_2 13 rfl rfl)
theorem dX0_isRank_62 : decode cX0_isRank 62 = .ok (.iinc 2 1, 3) := dk_132 2 1 (dk_at dksX0_isRank_2 14 rfl rfl)
theorem dX0_isRank_65 : decode cX0_isRank 65 = .ok (.goto (-51), 3) := dk_167 255 205 (dk_at dksX0_isRank_2 17 rfl rfl)
theorem dX0_isRank_68 : decode cX0_isRank 68 = .ok (.iinc 1 1, 3) := dk_132 1 1 (dk_at dksX0_isRank_2 20 rfl rfl)
theorem dX0_isRank_71 : decode cX0_isRank 71 = .ok (.goto (-69), 3) := dk_167 255 187 (dk_at dksX0_isRank_3 0 rfl rfl)
theorem dX0_isRank_74 : decode cX0_isRank 74 = .ok (.iconst 1, 1) := dk_4 (dk_at dksX0_isRank_3 3 rfl rfl)
theorem dX0_isRank_75 : decode cX0_isRank 75 = .ok (.ireturn, 1) := dk_172 (dk_at dksX0_isRank_3 4 rfl rfl)
abbrev MX0_isRank : jjM := (yX0_isRank, cX0_isRank, 3, (Option.some Jvm.ClassFile.FieldType.boolean))
theorem npX0_isRank : yX0_isRank.cls ≠ "java/lang/invoke/MethodHandle" ∧ yX0_isRank.cls ≠ "java/lang/invoke/VarHandle" ∧ (parseMethodDescriptor yX0_isRank.desc).map (fun d => d.parameters.length) = some 0 := by decide +kernel
abbrev cX0_nudges : ByteArray := prog_1_method_69_code
def yX0_nudges : MethodName := ⟨RX0, "nudges", "(IIIII)I"⟩
def dkwX0_nudges_11 : List UInt8 := [132, 6, 1, 132, 8, 1, 167, 255, 177, 132, 7, 1, 167, 255, 117, 2, 172]
abbrev dktX0_nudges_11 : List UInt8 := dkwX0_nudges_11 ++ []
def dkwX0_nudges_10 : List UInt8 := [180, 0, 53, 42, 180, 0, 50, 21, 7, 46, 46, 4, 96, 79, 42, 180, 0, 50, 21, 6, 21, 9, 79]
abbrev dktX0_nudges_10 : List UInt8 := dkwX0_nudges_10 ++ dktX0_nudges_11
def dkwX0_nudges_9 : List UInt8 := [182, 1, 123, 42, 180, 0, 53, 21, 9, 46, 2, 159, 0, 6, 167, 0, 36, 42, 180, 0, 53, 21, 9, 42]
abbrev dktX0_nudges_9 : List UInt8 := dkwX0_nudges_9 ++ dktX0_nudges_10
def dkwX0_nudges_8 : List UInt8 := [4, 96, 42, 180, 1, 73, 162, 0, 74, 42, 21, 8, 182, 1, 123, 42, 182, 1, 92, 54, 9, 42, 21, 8]
abbrev dktX0_nudges_8 : List UInt8 := dkwX0_nudges_8 ++ dktX0_nudges_9
def dkwX0_nudges_7 : List UInt8 := [182, 1, 120, 153, 0, 16, 42, 180, 0, 53, 42, 180, 0, 50, 21, 7, 46, 46, 172, 3, 54, 8, 21, 8]
abbrev dktX0_nudges_7 : List UInt8 := dkwX0_nudges_7 ++ dktX0_nudges_8
def dkwX0_nudges_6 : List UInt8 := [180, 0, 50, 21, 7, 46, 182, 1, 83, 42, 28, 29, 182, 1, 120, 153, 0, 27, 42, 21, 4, 21, 5]
abbrev dktX0_nudges_6 : List UInt8 := dkwX0_nudges_6 ++ dktX0_nudges_7
def dkwX0_nudges_5 : List UInt8 := [180, 0, 50, 3, 46, 3, 79, 4, 54, 6, 3, 54, 7, 21, 7, 21, 6, 162, 0, 138, 42, 42]
abbrev dktX0_nudges_5 : List UInt8 := dkwX0_nudges_5 ++ dktX0_nudges_6
def dkwX0_nudges_4 : List UInt8 := [180, 0, 53, 2, 184, 1, 114, 42, 180, 0, 50, 3, 42, 182, 1, 92, 79, 42, 180, 0, 53, 42]
abbrev dktX0_nudges_4 : List UInt8 := dkwX0_nudges_4 ++ dktX0_nudges_5
def dkwX0_nudges_3 : List UInt8 := [180, 0, 47, 21, 6, 42, 180, 0, 12, 27, 21, 6, 182, 0, 192, 79, 132, 6, 1, 167, 255, 227, 42]
abbrev dktX0_nudges_3 : List UInt8 := dkwX0_nudges_3 ++ dktX0_nudges_4
def dkwX0_nudges_2 : List UInt8 := [16, 6, 182, 1, 86, 154, 0, 5, 2, 172, 3, 54, 6, 21, 6, 42, 180, 1, 73, 162, 0, 26, 42]
abbrev dktX0_nudges_2 : List UInt8 := dkwX0_nudges_2 ++ dktX0_nudges_3
def dkwX0_nudges_1 : List UInt8 := [21, 4, 2, 159, 0, 15, 42, 27, 21, 4, 21, 5, 182, 1, 108, 153, 0, 17, 42, 42, 27, 182, 1, 111]
abbrev dktX0_nudges_1 : List UInt8 := dkwX0_nudges_1 ++ dktX0_nudges_2
def dkwX0_nudges_0 : List UInt8 := [27, 184, 0, 87, 153, 0, 51, 42, 27, 28, 29, 182, 1, 108, 153, 0, 41, 21, 4, 28, 159, 0, 35]
abbrev dktX0_nudges_0 : List UInt8 := dkwX0_nudges_0 ++ dktX0_nudges_1
theorem dksX0_nudges_0 : cX0_nudges.data.toList.drop 0 = dktX0_nudges_0 := by decide +kernel
theorem dksX0_nudges_1 : cX0_nudges.data.toList.drop 23 = dktX0_nudges_1 := dk_seg dksX0_nudges_0 23 rfl rfl
theorem dksX0_nudges_2 : cX0_nudges.data.toList.drop 47 = dktX0_nudges_2 := dk_seg dksX0_nudges_1 24 rfl rfl
theorem dksX0_nudges_3 : cX0_nudges.data.toList.drop 70 = dktX0_nudges_3 := dk_seg dksX0_nudges_2 23 rfl rfl
theorem dksX0_nudges_4 : cX0_nudges.data.toList.drop 93 = dktX0_nudges_4 := dk_seg dksX0_nudges_3 23 rfl rfl
theorem dksX0_nudges_5 : cX0_nudges.data.toList.drop 115 = dktX0_nudges_5 := dk_seg dksX0_nudges_4 22 rfl rfl
theorem dksX0_nudges_6 : cX0_nudges.data.toList.drop 137 = dktX0_nudges_6 := dk_seg dksX0_nudges_5 22 rfl rfl
theorem dksX0_nudges_7 : cX0_nudges.data.toList.drop 160 = dktX0_nudges_7 := dk_seg dksX0_nudges_6 23 rfl rfl
theorem dksX0_nudges_8 : cX0_nudges.data.toList.drop 184 = dktX0_nudges_8 := dk_seg dksX0_nudges_7 24 rfl rfl
theorem dksX0_nudges_9 : cX0_nudges.data.toList.drop 208 = dktX0_nudges_9 := dk_seg dksX0_nudges_8 24 rfl rfl
theorem dksX0_nudges_10 : cX0_nudges.data.toList.drop 232 = dktX0_nudges_10 := dk_seg dksX0_nudges_9 24 rfl rfl
theorem dksX0_nudges_11 : cX0_nudges.data.toList.drop 255 = dktX0_nudges_11 := dk_seg dksX0_nudges_10 23 rfl rfl
theorem dX0_nudges_0 : decode cX0_nudges 0 = .ok (.iload_n 1, 1) := dk_27 (dk_at dksX0_nudges_0 0 rfl rfl)
theorem dX0_nudges_1 : decode cX0_nudges 1 = .ok (.invokestatic 87, 3) := dk_184 0 87 (dk_at dksX0_nudges_0 1 rfl rfl)
theorem dX0_nudges_4 : decode cX0_nudges 4 = .ok (.ifCond .eq 51, 3) := dk_153 0 51 (dk_at dksX0_nudges_0 4 rfl rfl)
theorem dX0_nudges_7 : decode cX0_nudges 7 = .ok (.aload_n 0, 1) := dk_42 (dk_at dksX0_nudges_0 7 rfl rfl)
theorem dX0_nudges_8 : decode cX0_nudges 8 = .ok (.iload_n 1, 1) := dk_27 (dk_at dksX0_nudges_0 8 rfl rfl)
theorem dX0_nudges_9 : decode cX0_nudges 9 = .ok (.iload_n 2, 1) := dk_28 (dk_at dksX0_nudges_0 9 rfl rfl)
theorem dX0_nudges_10 : decode cX0_nudges 10 = .ok (.iload_n 3, 1) := dk_29 (dk_at dksX0_nudges_0 10 rfl rfl)
theorem dX0_nudges_11 : decode cX0_nudges 11 = .ok (.invokevirtual 364, 3) := dk_182 1 108 (dk_at dksX0_nudges_0 11 rfl rfl)
theorem dX0_nudges_14 : decode cX0_nudges 14 = .ok (.ifCond .eq 41, 3) := dk_153 0 41 (dk_at dksX0_nudges_0 14 rfl rfl)
theorem dX0_nudges_17 : decode cX0_nudges 17 = .ok (.iload 4, 2) := dk_21 4 (dk_at dksX0_nudges_0 17 rfl rfl)
theorem dX0_nudges_19 : decode cX0_nudges 19 = .ok (.iload_n 2, 1) := dk_28 (dk_at dksX0_nudges_0 19 rfl rfl)
theorem dX0_nudges_20 : decode cX0_nudges 20 = .ok (.if_icmp .eq 35, 3) := dk_159 0 35 (dk_at dksX0_nudges_0 20 rfl rfl)
theorem dX0_nudges_23 : decode cX0_nudges 23 = .ok (.iload 4, 2) := dk_21 4 (dk_at dksX0_nudges_1 0 rfl rfl)
theorem dX0_nudges_25 : decode cX0_nudges 25 = .ok (.iconst (-1), 1) := dk_2 (dk_at dksX0_nudges_1 2 rfl rfl)
theorem dX0_nudges_26 : decode cX0_nudges 26 = .ok (.if_icmp .eq 15, 3) := dk_159 0 15 (dk_at dksX0_nudges_1 3 rfl rfl)
theorem dX0_nudges_29 : decode cX0_nudges 29 = .ok (.aload_n 0, 1) := dk_42 (dk_at dksX0_nudges_1 6 rfl rfl)
theorem dX0_nudges_30 : decode cX0_nudges 30 = .ok (.iload_n 1, 1) := dk_27 (dk_at dksX0_nudges_1 7 rfl rfl)
theorem dX0_nudges_31 : decode cX0_nudges 31 = .ok (.iload 4, 2) := dk_21 4 (dk_at dksX0_nudges_1 8 rfl rfl)
theorem dX0_nudges_33 : decode cX0_nudges 33 = .ok (.iload 5, 2) := dk_21 5 (dk_at dksX0_nudges_1 10 rfl rfl)
theorem dX0_nudges_35 : decode cX0_nudges 35 = .ok (.invokevirtual 364, 3) := dk_182 1 108 (dk_at dksX0_nudges_1 12 rfl rfl)
theorem dX0_nudges_38 : decode cX0_nudges 38 = .ok (.ifCond .eq 17, 3) := dk_153 0 17 (dk_at dksX0_nudges_1 15 rfl rfl)
theorem dX0_nudges_41 : decode cX0_nudges 41 = .ok (.aload_n 0, 1) := dk_42 (dk_at dksX0_nudges_1 18 rfl rfl)
theorem dX0_nudges_42 : decode cX0_nudges 42 = .ok (.aload_n 0, 1) := dk_42 (dk_at dksX0_nudges_1 19 rfl rfl)
theorem dX0_nudges_43 : decode cX0_nudges 43 = .ok (.iload_n 1, 1) := dk_27 (dk_at dksX0_nudges_1 20 rfl rfl)
theorem dX0_nudges_44 : decode cX0_nudges 44 = .ok (.invokevirtual 367, 3) := dk_182 1 111 (dk_at dksX0_nudges_1 21 rfl rfl)
theorem dX0_nudges_47 : decode cX0_nudges 47 = .ok (.bipush 6, 2) := dk_16 6 (dk_at dksX0_nudges_2 0 rfl rfl)
theorem dX0_nudges_49 : decode cX0_nudges 49 = .ok (.invokevirtual 342, 3) := dk_182 1 86 (dk_at dksX0_nudges_2 2 rfl rfl)
theorem dX0_nudges_52 : decode cX0_nudges 52 = .ok (.ifCond .ne 5, 3) := dk_154 0 5 (dk_at dksX0_nudges_2 5 rfl rfl)
theorem dX0_nudges_55 : decode cX0_nudges 55 = .ok (.iconst (-1), 1) := dk_2 (dk_at dksX0_nudges_2 8 rfl rfl)
theorem dX0_nudges_56 : decode cX0_nudges 56 = .ok (.ireturn, 1) := dk_172 (dk_at dksX0_nudges_2 9 rfl rfl)
theorem dX0_nudges_57 : decode cX0_nudges 57 = .ok (.iconst 0, 1) := dk_3 (dk_at dksX0_nudges_2 10 rfl rfl)
theorem dX0_nudges_58 : decode cX0_nudges 58 = .ok (.istore 6, 2) := dk_54 6 (dk_at dksX0_nudges_2 11 rfl rfl)
theorem dX0_nudges_60 : decode cX0_nudges 60 = .ok (.iload 6, 2) := dk_21 6 (dk_at dksX0_nudges_2 13 rfl rfl)
theorem dX0_nudges_62 : decode cX0_nudges 62 = .ok (.aload_n 0, 1) := dk_42 (dk_at dksX0_nudges_2 15 rfl rfl)
theorem dX0_nudges_63 : decode cX0_nudges 63 = .ok (.getfield 329, 3) := dk_180 1 73 (dk_at dksX0_nudges_2 16 rfl rfl)
theorem dX0_nudges_66 : decode cX0_nudges 66 = .ok (.if_icmp .ge 26, 3) := dk_162 0 26 (dk_at dksX0_nudges_2 19 rfl rfl)
theorem dX0_nudges_69 : decode cX0_nudges 69 = .ok (.aload_n 0, 1) := dk_42 (dk_at dksX0_nudges_2 22 rfl rfl)
theorem dX0_nudges_70 : decode cX0_nudges 70 = .ok (.getfield 47, 3) := dk_180 0 47 (dk_at dksX0_nudges_3 0 rfl rfl)
theorem dX0_nudges_73 : decode cX0_nudges 73 = .ok (.iload 6, 2) := dk_21 6 (dk_at dksX0_nudges_3 3 rfl rfl)
theorem dX0_nudges_75 : decode cX0_nudges 75 = .ok (.aload_n 0, 1) := dk_42 (dk_at dksX0_nudges_3 5 rfl rfl)
theorem dX0_nudges_76 : decode cX0_nudges 76 = .ok (.getfield 12, 3) := dk_180 0 12 (dk_at dksX0_nudges_3 6 rfl rfl)
theorem dX0_nudges_79 : decode cX0_nudges 79 = .ok (.iload_n 1, 1) := dk_27 (dk_at dksX0_nudges_3 9 rfl rfl)
theorem dX0_nudges_80 : decode cX0_nudges 80 = .ok (.iload 6, 2) := dk_21 6 (dk_at dksX0_nudges_3 10 rfl rfl)
theorem dX0_nudges_82 : decode cX0_nudges 82 = .ok (.invokevirtual 192, 3) := dk_182 0 192 (dk_at dksX0_nudges_3 12 rfl rfl)
theorem dX0_nudges_85 : decode cX0_nudges 85 = .ok (.iastore, 1) := dk_79 (dk_at dksX0_nudges_3 15 rfl rfl)
theorem dX0_nudges_86 : decode cX0_nudges 86 = .ok (.iinc 6 1, 3) := dk_132 6 1 (dk_at dksX0_nudges_3 16 rfl rfl)
theorem dX0_nudges_89 : decode cX0_nudges 89 = .ok (.goto (-29), 3) := dk_167 255 227 (dk_at dksX0_nudges_3 19 rfl rfl)
theorem dX0_nudges_92 : decode cX0_nudges 92 = .ok (.aload_n 0, 1) := dk_42 (dk_at dksX0_nudges_3 22 rfl rfl)
theorem dX0_nudges_93 : decode cX0_nudges 93 = .ok (.getfield 53, 3) := dk_180 0 53 (dk_at dksX0_nudges_4 0 rfl rfl)
theorem dX0_nudges_96 : decode cX0_nudges 96 = .ok (.iconst (-1), 1) := dk_2 (dk_at dksX0_nudges_4 3 rfl rfl)
theorem dX0_nudges_97 : decode cX0_nudges 97 = .ok (.invokestatic 370, 3) := dk_184 1 114 (dk_at dksX0_nudges_4 4 rfl rfl)
theorem dX0_nudges_100 : decode cX0_nudges 100 = .ok (.aload_n 0, 1) := dk_42 (dk_at dksX0_nudges_4 7 rfl rfl)
theorem dX0_nudges_101 : decode cX0_nudges 101 = .ok (.getfield 50, 3) := dk_180 0 50 (dk_at dksX0_nudges_4 8 rfl rfl)
theorem dX0_nudges_104 : decode cX0_nudges 104 = .ok (.iconst 0, 1) := dk_3 (dk_at dksX0_nudges_4 11 rfl rfl)
theorem dX0_nudges_105 : decode cX0_nudges 105 = .ok (.aload_n 0, 1) := dk_42 (dk_at dksX0_nudges_4 12 rfl rfl)
theorem dX0_nudges_106 : decode cX0_nudges 106 = .ok (.invokevirtual 348, 3) := dk_182 1 92 (dk_at dksX0_nudges_4 13 rfl rfl)
theorem dX0_nudges_109 : decode cX0_nudges 109 = .ok (.iastore, 1) := dk_79 (dk_at dksX0_nudges_4 16 rfl rfl)
theorem dX0_nudges_110 : decode cX0_nudges 110 = .ok (.aload_n 0, 1) := dk_42 (dk_at dksX0_nudges_4 17 rfl rfl)
theorem dX0_nudges_111 : decode cX0_nudges 111 = .ok (.getfield 53, 3) := dk_180 0 53 (dk_at dksX0_nudges_4 18 rfl rfl)
theorem dX0_nudges_114 : decode cX0_nudges 114 = .ok (.aload_n 0, 1) := dk_42 (dk_at dksX0_nudges_4 21 rfl rfl)
theorem dX0_nudges_115 : decode cX0_nudges 115 = .ok (.getfield 50, 3) := dk_180 0 50 (dk_at dksX0_nudges_5 0 rfl rfl)
theorem dX0_nudges_118 : decode cX0_nudges 118 = .ok (.iconst 0, 1) := dk_3 (dk_at dksX0_nudges_5 3 rfl rfl)
theorem dX0_nudges_119 : decode cX0_nudges 119 = .ok (.iaload, 1) := dk_46 (dk_at dksX0_nudges_5 4 rfl rfl)
theorem dX0_nudges_120 : decode cX0_nudges 120 = .ok (.iconst 0, 1) := dk_3 (dk_at dksX0_nudges_5 5 rfl rfl)
theorem dX0_nudges_121 : decode cX0_nudges 121 = .ok (.iastore, 1) := dk_79 (dk_at dksX0_nudges_5 6 rfl rfl)
theorem dX0_nudges_122 : decode cX0_nudges 122 = .ok (.iconst 1, 1) := dk_4 (dk_at dksX0_nudges_5 7 rfl rfl)
theorem dX0_nudges_123 : decode cX0_nudges 123 = .ok (.istore 6, 2) := dk_54 6 (dk_at dksX0_nudges_5 8 rfl rfl)
theorem dX0_nudges_125 : decode cX0_nudges 125 = .ok (.iconst 0, 1) := dk_3 (dk_at dksX0_nudges_5 10 rfl rfl)
theorem dX0_nudges_126 : decode cX0_nudges 126 = .ok (.istore 7, 2) := dk_54 7 (dk_at dksX0_nudges_5 11 rfl rfl)
theorem dX0_nudges_128 : decode cX0_nudges 128 = .ok (.iload 7, 2) := dk_21 7 (dk_at dksX0_nudges_5 13 rfl rfl)
theorem dX0_nudges_130 : decode cX0_nudges 130 = .ok (.iload 6, 2) := dk_21 6 (dk_at dksX0_nudges_5 15 rfl rfl)
theorem dX0_nudges_132 : decode cX0_nudges 132 = .ok (.if_icmp .ge 138, 3) := dk_162 0 138 (dk_at dksX0_nudges_5 17 rfl rfl)
theorem dX0_nudges_135 : decode cX0_nudges 135 = .ok (.aload_n 0, 1) := dk_42 (dk_at dksX0_nudges_5 20 rfl rfl)
theorem dX0_nudges_136 : decode cX0_nudges 136 = .ok (.aload_n 0, 1) := dk_42 (dk_at dksX0_nudges_5 21 rfl rfl)
theorem dX0_nudges_137 : decode cX0_nudges 137 = .ok (.getfield 50, 3) := dk_180 0 50 (dk_at dksX0_nudges_6 0 rfl rfl)
theorem dX0_nudges_140 : decode cX0_nudges 140 = .ok (.iload 7, 2) := dk_21 7 (dk_at dksX0_nudges_6 3 rfl rfl)
theorem dX0_nudges_142 : decode cX0_nudges 142 = .ok (.iaload, 1) := dk_46 (dk_at dksX0_nudges_6 5 rfl rfl)
theorem dX0_nudges_143 : decode cX0_nudges 143 = .ok (.invokevirtual 339, 3) := dk_182 1 83 (dk_at dksX0_nudges_6 6 rfl rfl)
theorem dX0_nudges_146 : decode cX0_nudges 146 = .ok (.aload_n 0, 1) := dk_42 (dk_at dksX0_nudges_6 9 rfl rfl)
theorem dX0_nudges_147 : decode cX0_nudges 147 = .ok (.iload_n 2, 1) := dk_28 (dk_at dksX0_nudges_6 10 rfl rfl)
theorem dX0_nudges_148 : decode cX0_nudges 148 = .ok (.iload_n 3, 1) := dk_29 (dk_at dksX0_nudges_6 11 rfl rfl)
theorem dX0_nudges_149 : decode cX0_nudges 149 = .ok (.invokevirtual 376, 3) := dk_182 1 120 (dk_at dksX0_nudges_6 12 rfl rfl)
theorem dX0_nudges_152 : decode cX0_nudges 152 = .ok (.ifCond .eq 27, 3) := dk_153 0 27 (dk_at dksX0_nudges_6 15 rfl rfl)
theorem dX0_nudges_155 : decode cX0_nudges 155 = .ok (.aload_n 0, 1) := dk_42 (dk_at dksX0_nudges_6 18 rfl rfl)
theorem dX0_nudges_156 : decode cX0_nudges 156 = .ok (.iload 4, 2) := dk_21 4 (dk_at dksX0_nudges_6 19 rfl rfl)
theorem dX0_nudges_158 : decode cX0_nudges 158 = .ok (.iload 5, 2) := dk_21 5 (dk_at dksX0_nudges_6 21 rfl rfl)
theorem dX0_nudges_160 : decode cX0_nudges 160 = .ok (.invokevirtual 376, 3) := dk_182 1 120 (dk_at dksX0_nudges_7 0 rfl rfl)
theorem dX0_nudges_163 : decode cX0_nudges 163 = .ok (.ifCond .eq 16, 3) := dk_153 0 16 (dk_at dksX0_nudges_7 3 rfl rfl)
theorem dX0_nudges_166 : decode cX0_nudges 166 = .ok (.aload_n 0, 1) := dk_42 (dk_at dksX0_nudges_7 6 rfl rfl)
theorem dX0_nudges_167 : decode cX0_nudges 167 = .ok (.getfield 53, 3) := dk_180 0 53 (dk_at dksX0_nudges_7 7 rfl rfl)
theorem dX0_nudges_170 : decode cX0_nudges 170 = .ok (.aload_n 0, 1) := dk_42 (dk_at dksX0_nudges_7 10 rfl rfl)
theorem dX0_nudges_171 : decode cX0_nudges 171 = .ok (.getfield 50, 3) := dk_180 0 50 (dk_at dksX0_nudges_7 11 rfl rfl)
theorem dX0_nudges_174 : decode cX0_nudges 174 = .ok (.iload 7, 2) := dk_21 7 (dk_at dksX0_nudges_7 14 rfl rfl)
theorem dX0_nudges_176 : decode cX0_nudges 176 = .ok (.iaload, 1) := dk_46 (dk_at dksX0_nudges_7 16 rfl rfl)
theorem dX0_nudges_177 : decode cX0_nudges 177 = .ok (.iaload, 1) := dk_46 (dk_at dksX0_nudges_7 17 rfl rfl)
theorem dX0_nudges_178 : decode cX0_nudges 178 = .ok (.ireturn, 1) := dk_172 (dk_at dksX0_nudges_7 18 rfl rfl)
theorem dX0_nudges_179 : decode cX0_nudges 179 = .ok (.iconst 0, 1) := dk_3 (dk_at dksX0_nudges_7 19 rfl rfl)
theorem dX0_nudges_180 : decode cX0_nudges 180 = .ok (.istore 8, 2) := dk_54 8 (dk_at dksX0_nudges_7 20 rfl rfl)
theorem dX0_nudges_182 : decode cX0_nudges 182 = .ok (.iload 8, 2) := dk_21 8 (dk_at dksX0_nudges_7 22 rfl rfl)
theorem dX0_nudges_184 : decode cX0_nudges 184 = .ok (.iconst 1, 1) := dk_4 (dk_at dksX0_nudges_8 0 rfl rfl)
theorem dX0_nudges_185 : decode cX0_nudges 185 = .ok (.iadd, 1) := dk_96 (dk_at dksX0_nudges_8 1 rfl rfl)
theorem dX0_nudges_186 : decode cX0_nudges 186 = .ok (.aload_n 0, 1) := dk_42 (dk_at dksX0_nudges_8 2 rfl rfl)
theorem dX0_nudges_187 : decode cX0_nudges 187 = .ok (.getfield 329, 3) := dk_180 1 73 (dk_at dksX0_nudges_8 3 rfl rfl)
theorem dX0_nudges_190 : decode cX0_nudges 190 = .ok (.if_icmp .ge 74, 3) := dk_162 0 74 (dk_at dksX0_nudges_8 6 rfl rfl)
theorem dX0_nudges_193 : decode cX0_nudges 193 = .ok (.aload_n 0, 1) := dk_42 (dk_at dksX0_nudges_8 9 rfl rfl)
theorem dX0_nudges_194 : decode cX0_nudges 194 = .ok (.iload 8, 2) := dk_21 8 (dk_at dksX0_nudges_8 10 rfl rfl)
theorem dX0_nudges_196 : decode cX0_nudges 196 = .ok (.invokevirtual 379, 3) := dk_182 1 123 (dk_at dksX0_nudges_8 12 rfl rfl)
theorem dX0_nudges_199 : decode cX0_nudges 199 = .ok (.aload_n 0, 1) := dk_42 (dk_at dksX0_nudges_8 15 rfl rfl)
theorem dX0_nudges_200 : decode cX0_nudges 200 = .ok (.invokevirtual 348, 3) := dk_182 1 92 (dk_at dksX0_nudges_8 16 rfl rfl)
theorem dX0_nudges_203 : decode cX0_nudges 203 = .ok (.istore 9, 2) := dk_54 9 (dk_at dksX0_nudges_8 19 rfl rfl)
theorem dX0_nudges_205 : decode cX0_nudges 205 = .ok (.aload_n 0, 1) := dk_42 (dk_at dksX0_nudges_8 21 rfl rfl)
theorem dX0_nudges_206 : decode cX0_nudges 206 = .ok (.iload 8, 2) := dk_21 8 (dk_at dksX0_nudges_8 22 rfl rfl)
theorem dX0_nudges_208 : decode cX0_nudges 208 = .ok (.invokevirtual 379, 3) := dk_182 1 123 (dk_at dksX0_nudges_9 0 rfl rfl)
theorem dX0_nudges_211 : decode cX0_nudges 211 = .ok (.aload_n 0, 1) := dk_42 (dk_at dksX0_nudges_9 3 rfl rfl)
theorem dX0_nudges_212 : decode cX0_nudges 212 = .ok (.getfield 53, 3) := dk_180 0 53 (dk_at dksX0_nudges_9 4 rfl rfl)
theorem dX0_nudges_215 : decode cX0_nudges 215 = .ok (.iload 9, 2) := dk_21 9 (dk_at dksX0_nudges_9 7 rfl rfl)
theorem dX0_nudges_217 : decode cX0_nudges 217 = .ok (.iaload, 1) := dk_46 (dk_at dksX0_nudges_9 9 rfl rfl)
theorem dX0_nudges_218 : decode cX0_nudges 218 = .ok (.iconst (-1), 1) := dk_2 (dk_at dksX0_nudges_9 10 rfl rfl)
theorem dX0_nudges_219 : decode cX0_nudges 219 = .ok (.if_icmp .eq 6, 3) := dk_159 0 6 (dk_at dksX0_nudges_9 11 rfl rfl)
theorem dX0_nudges_222 : decode cX0_nudges 222 = .ok (.goto 36, 3) := dk_167 0 36 (dk_at dksX0_nudges_9 14 rfl rfl)
theorem dX0_nudges_225 : decode cX0_nudges 225 = .ok (.aload_n 0, 1) := dk_42 (dk_at dksX0_nudges_9 17 rfl rfl)
theorem dX0_nudges_226 : decode cX0_nudges 226 = .ok (.getfield 53, 3) := dk_180 0 53 (dk_at dksX0_nudges_9 18 rfl rfl)
theorem dX0_nudges_229 : decode cX0_nudges 229 = .ok (.iload 9, 2) := dk_21 9 (dk_at dksX0_nudges_9 21 rfl rfl)
theorem dX0_nudges_231 : decode cX0_nudges 231 = .ok (.aload_n 0, 1) := dk_42 (dk_at dksX0_nudges_9 23 rfl rfl)
theorem dX0_nudges_232 : decode cX0_nudges 232 = .ok (.getfield 53, 3) := dk_180 0 53 (dk_at dksX0_nudges_10 0 rfl rfl)
theorem dX0_nudges_235 : decode cX0_nudges 235 = .ok (.aload_n 0, 1) := dk_42 (dk_at dksX0_nudges_10 3 rfl rfl)
theorem dX0_nudges_236 : decode cX0_nudges 236 = .ok (.getfield 50, 3) := dk_180 0 50 (dk_at dksX0_nudges_10 4 rfl rfl)
theorem dX0_nudges_239 : decode cX0_nudges 239 = .ok (.iload 7, 2) := dk_21 7 (dk_at dksX0_nudges_10 7 rfl rfl)
theorem dX0_nudges_241 : decode cX0_nudges 241 = .ok (.iaload, 1) := dk_46 (dk_at dksX0_nudges_10 9 rfl rfl)
theorem dX0_nudges_242 : decode cX0_nudges 242 = .ok (.iaload, 1) := dk_46 (dk_at dksX0_nudges_10 10 rfl rfl)
theorem dX0_nudges_243 : decode cX0_nudges 243 = .ok (.iconst 1, 1) := dk_4 (dk_at dksX0_nudges_10 11 rfl rfl)
theorem dX0_nudges_244 : decode cX0_nudges 244 = .ok (.iadd, 1) := dk_96 (dk_at dksX0_nudges_10 12 rfl rfl)
theorem dX0_nudges_245 : decode cX0_nudges 245 = .ok (.iastore, 1) := dk_79 (dk_at dksX0_nudges_10 13 rfl rfl)
theorem dX0_nudges_246 : decode cX0_nudges 246 = .ok (.aload_n 0, 1) := dk_42 (dk_at dksX0_nudges_10 14 rfl rfl)
theorem dX0_nudges_247 : decode cX0_nudges 247 = .ok (.getfield 50, 3) := dk_180 0 50 (dk_at dksX0_nudges_10 15 rfl rfl)
theorem dX0_nudges_250 : decode cX0_nudges 250 = .ok (.iload 6, 2) := dk_21 6 (dk_at dksX0_nudges_10 18 rfl rfl)
theorem dX0_nudges_252 : decode cX0_nudges 252 = .ok (.iload 9, 2) := dk_21 9 (dk_at dksX0_nudges_10 20 rfl rfl)
theorem dX0_nudges_254 : decode cX0_nudges 254 = .ok (.iastore, 1) := dk_79 (dk_at dksX0_nudges_10 22 rfl rfl)
theorem dX0_nudges_255 : decode cX0_nudges 255 = .ok (.iinc 6 1, 3) := dk_132 6 1 (dk_at dksX0_nudges_11 0 rfl rfl)
theorem dX0_nudges_258 : decode cX0_nudges 258 = .ok (.iinc 8 1, 3) := dk_132 8 1 (dk_at dksX0_nudges_11 3 rfl rfl)
theorem dX0_nudges_261 : decode cX0_nudges 261 = .ok (.goto (-79), 3) := dk_167 255 177 (dk_at dksX0_nudges_11 6 rfl rfl)
theorem dX0_nudges_264 : decode cX0_nudges 264 = .ok (.iinc 7 1, 3) := dk_132 7 1 (dk_at dksX0_nudges_11 9 rfl rfl)
theorem dX0_nudges_267 : decode cX0_nudges 267 = .ok (.goto (-139), 3) := dk_167 255 117 (dk_at dksX0_nudges_11 12 rfl rfl)
theorem dX0_nudges_270 : decode cX0_nudges 270 = .ok (.iconst (-1), 1) := dk_2 (dk_at dksX0_nudges_11 15 rfl rfl)
theorem dX0_nudges_271 : decode cX0_nudges 271 = .ok (.ireturn, 1) := dk_172 (dk_at dksX0_nudges_11 16 rfl rfl)
abbrev MX0_nudges : jjM := (yX0_nudges, cX0_nudges, 10, (Option.some Jvm.ClassFile.FieldType.int))
theorem npX0_nudges : yX0_nudges.cls ≠ "java/lang/invoke/MethodHandle" ∧ yX0_nudges.cls ≠ "java/lang/invoke/VarHandle" ∧ (parseMethodDescriptor yX0_nudges.desc).map (fun d => d.parameters.length) = some 5 := by decide +kernel
abbrev cX0_isPlaced : ByteArray := prog_1_method_68_code
def yX0_isPlaced : MethodName := ⟨RX0, "isPlaced", "(III)Z"⟩
def dkwX0_isPlaced_1 : List UInt8 := [182, 0, 189, 4, 100, 184, 0, 74, 153, 0, 7, 4, 167, 0, 4, 3, 172]
abbrev dktX0_isPlaced_1 : List UInt8 := dkwX0_isPlaced_1 ++ []
def dkwX0_isPlaced_0 : List UInt8 := [42, 28, 182, 1, 46, 153, 0, 34, 42, 28, 182, 0, 83, 27, 160, 0, 25, 29, 3, 42, 180, 0, 12, 27]
abbrev dktX0_isPlaced_0 : List UInt8 := dkwX0_isPlaced_0 ++ dktX0_isPlaced_1
theorem dksX0_isPlaced_0 : cX0_isPlaced.data.toList.drop 0 = dktX0_isPlaced_0 := by decide +kernel
theorem dksX0_isPlaced_1 : cX0_isPlaced.data.toList.drop 24 = dktX0_isPlaced_1 := dk_seg dksX0_isPlaced_0 24 rfl rfl
theorem dX0_isPlaced_0 : decode cX0_isPlaced 0 = .ok (.aload_n 0, 1) := dk_42 (dk_at dksX0_isPlaced_0 0 rfl rfl)
theorem dX0_isPlaced_1 : decode cX0_isPlaced 1 = .ok (.iload_n 2, 1) := dk_28 (dk_at dksX0_isPlaced_0 1 rfl rfl)
theorem dX0_isPlaced_2 : decode cX0_isPlaced 2 = .ok (.invokevirtual 302, 3) := dk_182 1 46 (dk_at dksX0_isPlaced_0 2 rfl rfl)
theorem dX0_isPlaced_5 : decode cX0_isPlaced 5 = .ok (.ifCond .eq 34, 3) := dk_153 0 34 (dk_at dksX0_isPlaced_0 5 rfl rfl)
theorem dX0_isPlaced_8 : decode cX0_isPlaced 8 = .ok (.aload_n 0, 1) := dk_42 (dk_at dksX0_isPlaced_0 8 rfl rfl)
theorem dX0_isPlaced_9 : decode cX0_isPlaced 9 = .ok (.iload_n 2, 1) := dk_28 (dk_at dksX0_isPlaced_0 9 rfl rfl)
theorem dX0_isPlaced_10 : decode cX0_isPlaced 10 = .ok (.invokevirtual 83, 3) := dk_182 0 83 (dk_at dksX0_isPlaced_0 10 rfl rfl)
theorem dX0_isPlaced_13 : decode cX0_isPlaced 13 = .ok (.iload_n 1, 1) := dk_27 (dk_at dksX0_isPlaced_0 13 rfl rfl)
theorem dX0_isPlaced_14 : decode cX0_isPlaced 14 = .ok (.if_icmp .ne 25, 3) := dk_160 0 25 (dk_at dksX0_isPlaced_0 14 rfl rfl)
theorem dX0_isPlaced_17 : decode cX0_isPlaced 17 = .ok (.iload_n 3, 1) := dk_29 (dk_at dksX0_isPlaced_0 17 rfl rfl)
theorem dX0_isPlaced_18 : decode cX0_isPlaced 18 = .ok (.iconst 0, 1) := dk_3 (dk_at dksX0_isPlaced_0 18 rfl rfl)
theorem dX0_isPlaced_19 : decode cX0_isPlaced 19 = .ok (.aload_n 0, 1) := dk_42 (dk_at dksX0_isPlaced_0 19 rfl rfl)
theorem dX0_isPlaced_20 : decode cX0_isPlaced 20 = .ok (.getfield 12, 3) := dk_180 0 12 (dk_at dksX0_isPlaced_0 20 rfl rfl)
theorem dX0_isPlaced_23 : decode cX0_isPlaced 23 = .ok (.iload_n 1, 1) := dk_27 (dk_at dksX0_isPlaced_0 23 rfl rfl)
theorem dX0_isPlaced_24 : decode cX0_isPlaced 24 = .ok (.invokevirtual 189, 3) := dk_182 0 189 (dk_at dksX0_isPlaced_1 0 rfl rfl)
theorem dX0_isPlaced_27 : decode cX0_isPlaced 27 = .ok (.iconst 1, 1) := dk_4 (dk_at dksX0_isPlaced_1 3 rfl rfl)
theorem dX0_isPlaced_28 : decode cX0_isPlaced 28 = .ok (.isub, 1) := dk_100 (dk_at dksX0_isPlaced_1 4 rfl rfl)
theorem dX0_isPlaced_29 : decode cX0_isPlaced 29 = .ok (.invokestatic 74, 3) := dk_184 0 74 (dk_at dksX0_isPlaced_1 5 rfl rfl)
theorem dX0_isPlaced_32 : decode cX0_isPlaced 32 = .ok (.ifCond .eq 7, 3) := dk_153 0 7 (dk_at dksX0_isPlaced_1 8 rfl rfl)
theorem dX0_isPlaced_35 : decode cX0_isPlaced 35 = .ok (.iconst 1, 1) := dk_4 (dk_at dksX0_isPlaced_1 11 rfl rfl)
theorem dX0_isPlaced_36 : decode cX0_isPlaced 36 = .ok (.goto 4, 3) := dk_167 0 4 (dk_at dksX0_isPlaced_1 12 rfl rfl)
theorem dX0_isPlaced_39 : decode cX0_isPlaced 39 = .ok (.iconst 0, 1) := dk_3 (dk_at dksX0_isPlaced_1 15 rfl rfl)
theorem dX0_isPlaced_40 : decode cX0_isPlaced 40 = .ok (.ireturn, 1) := dk_172 (dk_at dksX0_isPlaced_1 16 rfl rfl)
abbrev MX0_isPlaced : jjM := (yX0_isPlaced, cX0_isPlaced, 4, (Option.some Jvm.ClassFile.FieldType.boolean))
theorem npX0_isPlaced : yX0_isPlaced.cls ≠ "java/lang/invoke/MethodHandle" ∧ yX0_isPlaced.cls ≠ "java/lang/invoke/VarHandle" ∧ (parseMethodDescriptor yX0_isPlaced.desc).map (fun d => d.parameters.length) = some 3 := by decide +kernel
abbrev cX0_setOf : ByteArray := prog_1_method_65_code
def yX0_setOf : MethodName := ⟨RX0, "setOf", "(I)I"⟩
def dkwX0_setOf_1 : List UInt8 := [182, 0, 192, 120, 128, 61, 132, 3, 1, 167, 255, 227, 28, 172]
abbrev dktX0_setOf_1 : List UInt8 := dkwX0_setOf_1 ++ []
def dkwX0_setOf_0 : List UInt8 := [3, 61, 3, 62, 29, 42, 180, 0, 12, 27, 182, 0, 189, 162, 0, 23, 28, 4, 42, 180, 0, 12, 27, 29]
abbrev dktX0_setOf_0 : List UInt8 := dkwX0_setOf_0 ++ dktX0_setOf_1
theorem dksX0_setOf_0 : cX0_setOf.data.toList.drop 0 = dktX0_setOf_0 := by decide +kernel
theorem dksX0_setOf_1 : cX0_setOf.data.toList.drop 24 = dktX0_setOf_1 := dk_seg dksX0_setOf_0 24 rfl rfl
theorem dX0_setOf_0 : decode cX0_setOf 0 = .ok (.iconst 0, 1) := dk_3 (dk_at dksX0_setOf_0 0 rfl rfl)
theorem dX0_setOf_1 : decode cX0_setOf 1 = .ok (.istore_n 2, 1) := dk_61 (dk_at dksX0_setOf_0 1 rfl rfl)
theorem dX0_setOf_2 : decode cX0_setOf 2 = .ok (.iconst 0, 1) := dk_3 (dk_at dksX0_setOf_0 2 rfl rfl)
theorem dX0_setOf_3 : decode cX0_setOf 3 = .ok (.istore_n 3, 1) := dk_62 (dk_at dksX0_setOf_0 3 rfl rfl)
theorem dX0_setOf_4 : decode cX0_setOf 4 = .ok (.iload_n 3, 1) := dk_29 (dk_at dksX0_setOf_0 4 rfl rfl)
theorem dX0_setOf_5 : decode cX0_setOf 5 = .ok (.aload_n 0, 1) := dk_42 (dk_at dksX0_setOf_0 5 rfl rfl)
theorem dX0_setOf_6 : decode cX0_setOf 6 = .ok (.getfield 12, 3) := dk_180 0 12 (dk_at dksX0_setOf_0 6 rfl rfl)
theorem dX0_setOf_9 : decode cX0_setOf 9 = .ok (.iload_n 1, 1) := dk_27 (dk_at dksX0_setOf_0 9 rfl rfl)
theorem dX0_setOf_10 : decode cX0_setOf 10 = .ok (.invokevirtual 189, 3) := dk_182 0 189 (dk_at dksX0_setOf_0 10 rfl rfl)
theorem dX0_setOf_13 : decode cX0_setOf 13 = .ok (.if_icmp .ge 23, 3) := dk_162 0 23 (dk_at dksX0_setOf_0 13 rfl rfl)
theorem dX0_setOf_16 : decode cX0_setOf 16 = .ok (.iload_n 2, 1) := dk_28 (dk_at dksX0_setOf_0 16 rfl rfl)
theorem dX0_setOf_17 : decode cX0_setOf 17 = .ok (.iconst 1, 1) := dk_4 (dk_at dksX0_setOf_0 17 rfl rfl)
theorem dX0_setOf_18 : decode cX0_setOf 18 = .ok (.aload_n 0, 1) := dk_42 (dk_at dksX0_setOf_0 18 rfl rfl)
theorem dX0_setOf_19 : decode cX0_setOf 19 = .ok (.getfield 12, 3) := dk_180 0 12 (dk_at dksX0_setOf_0 19 rfl rfl)
theorem dX0_setOf_22 : decode cX0_setOf 22 = .ok (.iload_n 1, 1) := dk_27 (dk_at dksX0_setOf_0 22 rfl rfl)
theorem dX0_setOf_23 : decode cX0_setOf 23 = .ok (.iload_n 3, 1) := dk_29 (dk_at dksX0_setOf_0 23 rfl rfl)
theorem dX0_setOf_24 : decode cX0_setOf 24 = .ok (.invokevirtual 192, 3) := dk_182 0 192 (dk_at dksX0_setOf_1 0 rfl rfl)
theorem dX0_setOf_27 : decode cX0_setOf 27 = .ok (.ishl, 1) := dk_120 (dk_at dksX0_setOf_1 3 rfl rfl)
theorem dX0_setOf_28 : decode cX0_setOf 28 = .ok (.ior, 1) := dk_128 (dk_at dksX0_setOf_1 4 rfl rfl)
theorem dX0_setOf_29 : decode cX0_setOf 29 = .ok (.istore_n 2, 1) := dk_61 (dk_at dksX0_setOf_1 5 rfl rfl)
theorem dX0_setOf_30 : decode cX0_setOf 30 = .ok (.iinc 3 1, 3) := dk_132 3 1 (dk_at dksX0_setOf_1 6 rfl rfl)
theorem dX0_setOf_33 : decode cX0_setOf 33 = .ok (.goto (-29), 3) := dk_167 255 227 (dk_at dksX0_setOf_1 9 rfl rfl)
theorem dX0_setOf_36 : decode cX0_setOf 36 = .ok (.iload_n 2, 1) := dk_28 (dk_at dksX0_setOf_1 12 rfl rfl)
theorem dX0_setOf_37 : decode cX0_setOf 37 = .ok (.ireturn, 1) := dk_172 (dk_at dksX0_setOf_1 13 rfl rfl)
abbrev MX0_setOf : jjM := (yX0_setOf, cX0_setOf, 4, (Option.some Jvm.ClassFile.FieldType.int))
theorem npX0_setOf : yX0_setOf.cls ≠ "java/lang/invoke/MethodHandle" ∧ yX0_setOf.cls ≠ "java/lang/invoke/VarHandle" ∧ (parseMethodDescriptor yX0_setOf.desc).map (fun d => d.parameters.length) = some 1 := by decide +kernel
abbrev cX0_stands : ByteArray := prog_1_method_66_code
def yX0_stands : MethodName := ⟨RX0, "stands", "(II)Z"⟩
def dkwX0_stands_0 : List UInt8 := [27, 2, 159, 0, 13, 42, 180, 0, 47, 28, 46, 27, 160, 0, 7, 4, 167, 0, 4, 3, 172]
abbrev dktX0_stands_0 : List UInt8 := dkwX0_stands_0 ++ []
theorem dksX0_stands_0 : cX0_stands.data.toList.drop 0 = dktX0_stands_0 := by decide +kernel
theorem dX0_stands_0 : decode cX0_stands 0 = .ok (.iload_n 1, 1) := dk_27 (dk_at dksX0_stands_0 0 rfl rfl)
theorem dX0_stands_1 : decode cX0_stands 1 = .ok (.iconst (-1), 1) := dk_2 (dk_at dksX0_stands_0 1 rfl rfl)
theorem dX0_stands_2 : decode cX0_stands 2 = .ok (.if_icmp .eq 13, 3) := dk_159 0 13 (dk_at dksX0_stands_0 2 rfl rfl)
theorem dX0_stands_5 : decode cX0_stands 5 = .ok (.aload_n 0, 1) := dk_42 (dk_at dksX0_stands_0 5 rfl rfl)
theorem dX0_stands_6 : decode cX0_stands 6 = .ok (.getfield 47, 3) := dk_180 0 47 (dk_at dksX0_stands_0 6 rfl rfl)
theorem dX0_stands_9 : decode cX0_stands 9 = .ok (.iload_n 2, 1) := dk_28 (dk_at dksX0_stands_0 9 rfl rfl)
theorem dX0_stands_10 : decode cX0_stands 10 = .ok (.iaload, 1) := dk_46 (dk_at dksX0_stands_0 10 rfl rfl)
theorem dX0_stands_11 : decode cX0_stands 11 = .ok (.iload_n 1, 1) := dk_27 (dk_at dksX0_stands_0 11 rfl rfl)
theorem dX0_stands_12 : decode cX0_stands 12 = .ok (.if_icmp .ne 7, 3) := dk_160 0 7 (dk_at dksX0_stands_0 12 rfl rfl)
theorem dX0_stands_15 : decode cX0_stands 15 = .ok (.iconst 1, 1) := dk_4 (dk_at dksX0_stands_0 15 rfl rfl)
theorem dX0_stands_16 : decode cX0_stands 16 = .ok (.goto 4, 3) := dk_167 0 4 (dk_at dksX0_stands_0 16 rfl rfl)
theorem dX0_stands_19 : decode cX0_stands 19 = .ok (.iconst 0, 1) := dk_3 (dk_at dksX0_stands_0 19 rfl rfl)
theorem dX0_stands_20 : decode cX0_stands 20 = .ok (.ireturn, 1) := dk_172 (dk_at dksX0_stands_0 20 rfl rfl)
abbrev MX0_stands : jjM := (yX0_stands, cX0_stands, 3, (Option.some Jvm.ClassFile.FieldType.boolean))
theorem npX0_stands : yX0_stands.cls ≠ "java/lang/invoke/MethodHandle" ∧ yX0_stands.cls ≠ "java/lang/invoke/VarHandle" ∧ (parseMethodDescriptor yX0_stands.desc).map (fun d => d.parameters.length) = some 2 := by decide +kernel
abbrev cX0_swaps : ByteArray := prog_1_method_67_code
def yX0_swaps : MethodName := ⟨RX0, "swaps", "(I)V"⟩
def dkwX0_swaps_1 : List UInt8 := [180, 0, 47, 27, 4, 96, 28, 79, 177]
abbrev dktX0_swaps_1 : List UInt8 := dkwX0_swaps_1 ++ []
def dkwX0_swaps_0 : List UInt8 := [42, 180, 0, 47, 27, 46, 61, 42, 180, 0, 47, 27, 42, 180, 0, 47, 27, 4, 96, 46, 79, 42]
abbrev dktX0_swaps_0 : List UInt8 := dkwX0_swaps_0 ++ dktX0_swaps_1
theorem dksX0_swaps_0 : cX0_swaps.data.toList.drop 0 = dktX0_swaps_0 := by decide +kernel
theorem dksX0_swaps_1 : cX0_swaps.data.toList.drop 22 = dktX0_swaps_1 := dk_seg dksX0_swaps_0 22 rfl rfl
theorem dX0_swaps_0 : decode cX0_swaps 0 = .ok (.aload_n 0, 1) := dk_42 (dk_at dksX0_swaps_0 0 rfl rfl)
theorem dX0_swaps_1 : decode cX0_swaps 1 = .ok (.getfield 47, 3) := dk_180 0 47 (dk_at dksX0_swaps_0 1 rfl rfl)
theorem dX0_swaps_4 : decode cX0_swaps 4 = .ok (.iload_n 1, 1) := dk_27 (dk_at dksX0_swaps_0 4 rfl rfl)
theorem dX0_swaps_5 : decode cX0_swaps 5 = .ok (.iaload, 1) := dk_46 (dk_at dksX0_swaps_0 5 rfl rfl)
theorem dX0_swaps_6 : decode cX0_swaps 6 = .ok (.istore_n 2, 1) := dk_61 (dk_at dksX0_swaps_0 6 rfl rfl)
theorem dX0_swaps_7 : decode cX0_swaps 7 = .ok (.aload_n 0, 1) := dk_42 (dk_at dksX0_swaps_0 7 rfl rfl)
theorem dX0_swaps_8 : decode cX0_swaps 8 = .ok (.getfield 47, 3) := dk_180 0 47 (dk_at dksX0_swaps_0 8 rfl rfl)
theorem dX0_swaps_11 : decode cX0_swaps 11 = .ok (.iload_n 1, 1) := dk_27 (dk_at dksX0_swaps_0 11 rfl rfl)
theorem dX0_swaps_12 : decode cX0_swaps 12 = .ok (.aload_n 0, 1) := dk_42 (dk_at dksX0_swaps_0 12 rfl rfl)
theorem dX0_swaps_13 : decode cX0_swaps 13 = .ok (.getfield 47, 3) := dk_180 0 47 (dk_at dksX0_swaps_0 13 rfl rfl)
theorem dX0_swaps_16 : decode cX0_swaps 16 = .ok (.iload_n 1, 1) := dk_27 (dk_at dksX0_swaps_0 16 rfl rfl)
theorem dX0_swaps_17 : decode cX0_swaps 17 = .ok (.iconst 1, 1) := dk_4 (dk_at dksX0_swaps_0 17 rfl rfl)
theorem dX0_swaps_18 : decode cX0_swaps 18 = .ok (.iadd, 1) := dk_96 (dk_at dksX0_swaps_0 18 rfl rfl)
theorem dX0_swaps_19 : decode cX0_swaps 19 = .ok (.iaload, 1) := dk_46 (dk_at dksX0_swaps_0 19 rfl rfl)
theorem dX0_swaps_20 : decode cX0_swaps 20 = .ok (.iastore, 1) := dk_79 (dk_at dksX0_swaps_0 20 rfl rfl)
theorem dX0_swaps_21 : decode cX0_swaps 21 = .ok (.aload_n 0, 1) := dk_42 (dk_at dksX0_swaps_0 21 rfl rfl)
theorem dX0_swaps_22 : decode cX0_swaps 22 = .ok (.getfield 47, 3) := dk_180 0 47 (dk_at dksX0_swaps_1 0 rfl rfl)
theorem dX0_swaps_25 : decode cX0_swaps 25 = .ok (.iload_n 1, 1) := dk_27 (dk_at dksX0_swaps_1 3 rfl rfl)
theorem dX0_swaps_26 : decode cX0_swaps 26 = .ok (.iconst 1, 1) := dk_4 (dk_at dksX0_swaps_1 4 rfl rfl)
theorem dX0_swaps_27 : decode cX0_swaps 27 = .ok (.iadd, 1) := dk_96 (dk_at dksX0_swaps_1 5 rfl rfl)
theorem dX0_swaps_28 : decode cX0_swaps 28 = .ok (.iload_n 2, 1) := dk_28 (dk_at dksX0_swaps_1 6 rfl rfl)
theorem dX0_swaps_29 : decode cX0_swaps 29 = .ok (.iastore, 1) := dk_79 (dk_at dksX0_swaps_1 7 rfl rfl)
theorem dX0_swaps_30 : decode cX0_swaps 30 = .ok (.return_, 1) := dk_177 (dk_at dksX0_swaps_1 8 rfl rfl)
abbrev MX0_swaps : jjM := (yX0_swaps, cX0_swaps, 3, (Option.none : Option Jvm.ClassFile.FieldType))
theorem npX0_swaps : yX0_swaps.cls ≠ "java/lang/invoke/MethodHandle" ∧ yX0_swaps.cls ≠ "java/lang/invoke/VarHandle" ∧ (parseMethodDescriptor yX0_swaps.desc).map (fun d => d.parameters.length) = some 1 := by decide +kernel
abbrev cX0_game : ByteArray := prog_1_method_73_code
def yX0_game : MethodName := ⟨RX0, "game", "(IIIZ)I"⟩
def dkwX0_game_6 : List UInt8 := [2, 172]
abbrev dktX0_game_6 : List UInt8 := dkwX0_game_6 ++ []
def dkwX0_game_5 : List UInt8 := [182, 1, 130, 42, 4, 29, 28, 182, 1, 133, 21, 5, 160, 0, 6, 21, 6, 172, 132, 6, 1, 167, 255, 220]
abbrev dktX0_game_5 : List UInt8 := dkwX0_game_5 ++ dktX0_game_6
def dkwX0_game_4 : List UInt8 := [154, 0, 6, 21, 5, 172, 2, 54, 6, 21, 6, 42, 180, 1, 49, 4, 100, 162, 0, 31, 42, 3, 21, 6]
abbrev dktX0_game_4 : List UInt8 := dkwX0_game_4 ++ dktX0_game_5
def dkwX0_game_3 : List UInt8 := [180, 0, 58, 3, 50, 3, 42, 180, 1, 49, 184, 0, 136, 42, 3, 29, 28, 182, 1, 133, 54, 5, 21, 4]
abbrev dktX0_game_3 : List UInt8 := dkwX0_game_3 ++ dktX0_game_4
def dkwX0_game_2 : List UInt8 := [154, 0, 6, 16, 254, 172, 42, 182, 0, 235, 42, 27, 2, 182, 1, 57, 42, 180, 0, 37, 3, 42]
abbrev dktX0_game_2 : List UInt8 := dkwX0_game_2 ++ dktX0_game_3
def dkwX0_game_1 : List UInt8 := [42, 180, 0, 12, 27, 182, 0, 189, 5, 8, 184, 0, 74, 153, 0, 12, 29, 4, 8, 184, 0, 74]
abbrev dktX0_game_1 : List UInt8 := dkwX0_game_1 ++ dktX0_game_2
def dkwX0_game_0 : List UInt8 := [27, 184, 0, 87, 153, 0, 45, 42, 28, 182, 1, 46, 153, 0, 37, 42, 28, 182, 0, 83, 27, 160, 0, 28]
abbrev dktX0_game_0 : List UInt8 := dkwX0_game_0 ++ dktX0_game_1
theorem dksX0_game_0 : cX0_game.data.toList.drop 0 = dktX0_game_0 := by decide +kernel
theorem dksX0_game_1 : cX0_game.data.toList.drop 24 = dktX0_game_1 := dk_seg dksX0_game_0 24 rfl rfl
theorem dksX0_game_2 : cX0_game.data.toList.drop 46 = dktX0_game_2 := dk_seg dksX0_game_1 22 rfl rfl
theorem dksX0_game_3 : cX0_game.data.toList.drop 68 = dktX0_game_3 := dk_seg dksX0_game_2 22 rfl rfl
theorem dksX0_game_4 : cX0_game.data.toList.drop 92 = dktX0_game_4 := dk_seg dksX0_game_3 24 rfl rfl
theorem dksX0_game_5 : cX0_game.data.toList.drop 116 = dktX0_game_5 := dk_seg dksX0_game_4 24 rfl rfl
theorem dksX0_game_6 : cX0_game.data.toList.drop 140 = dktX0_game_6 := dk_seg dksX0_game_5 24 rfl rfl
theorem dX0_game_0 : decode cX0_game 0 = .ok (.iload_n 1, 1) := dk_27 (dk_at dksX0_game_0 0 rfl rfl)
theorem dX0_game_1 : decode cX0_game 1 = .ok (.invokestatic 87, 3) := dk_184 0 87 (dk_at dksX0_game_0 1 rfl rfl)
theorem dX0_game_4 : decode cX0_game 4 = .ok (.ifCond .eq 45, 3) := dk_153 0 45 (dk_at dksX0_game_0 4 rfl rfl)
theorem dX0_game_7 : decode cX0_game 7 = .ok (.aload_n 0, 1) := dk_42 (dk_at dksX0_game_0 7 rfl rfl)
theorem dX0_game_8 : decode cX0_game 8 = .ok (.iload_n 2, 1) := dk_28 (dk_at dksX0_game_0 8 rfl rfl)
theorem dX0_game_9 : decode cX0_game 9 = .ok (.invokevirtual 302, 3) := dk_182 1 46 (dk_at dksX0_game_0 9 rfl rfl)
theorem dX0_game_12 : decode cX0_game 12 = .ok (.ifCond .eq 37, 3) := dk_153 0 37 (dk_at dksX0_game_0 12 rfl rfl)
theorem dX0_game_15 : decode cX0_game 15 = .ok (.aload_n 0, 1) := dk_42 (dk_at dksX0_game_0 15 rfl rfl)
theorem dX0_game_16 : decode cX0_game 16 = .ok (.iload_n 2, 1) := dk_28 (dk_at dksX0_game_0 16 rfl rfl)
theorem dX0_game_17 : decode cX0_game 17 = .ok (.invokevirtual 83, 3) := dk_182 0 83 (dk_at dksX0_game_0 17 rfl rfl)
theorem dX0_game_20 : decode cX0_game 20 = .ok (.iload_n 1, 1) := dk_27 (dk_at dksX0_game_0 20 rfl rfl)
theorem dX0_game_21 : decode cX0_game 21 = .ok (.if_icmp .ne 28, 3) := dk_160 0 28 (dk_at dksX0_game_0 21 rfl rfl)
theorem dX0_game_24 : decode cX0_game 24 = .ok (.aload_n 0, 1) := dk_42 (dk_at dksX0_game_1 0 rfl rfl)
theorem dX0_game_25 : decode cX0_game 25 = .ok (.getfield 12, 3) := dk_180 0 12 (dk_at dksX0_game_1 1 rfl rfl)
theorem dX0_game_28 : decode cX0_game 28 = .ok (.iload_n 1, 1) := dk_27 (dk_at dksX0_game_1 4 rfl rfl)
theorem dX0_game_29 : decode cX0_game 29 = .ok (.invokevirtual 189, 3) := dk_182 0 189 (dk_at dksX0_game_1 5 rfl rfl)
theorem dX0_game_32 : decode cX0_game 32 = .ok (.iconst 2, 1) := dk_5 (dk_at dksX0_game_1 8 rfl rfl)
theorem dX0_game_33 : decode cX0_game 33 = .ok (.iconst 5, 1) := dk_8 (dk_at dksX0_game_1 9 rfl rfl)
theorem dX0_game_34 : decode cX0_game 34 = .ok (.invokestatic 74, 3) := dk_184 0 74 (dk_at dksX0_game_1 10 rfl rfl)
theorem dX0_game_37 : decode cX0_game 37 = .ok (.ifCond .eq 12, 3) := dk_153 0 12 (dk_at dksX0_game_1 13 rfl rfl)
theorem dX0_game_40 : decode cX0_game 40 = .ok (.iload_n 3, 1) := dk_29 (dk_at dksX0_game_1 16 rfl rfl)
theorem dX0_game_41 : decode cX0_game 41 = .ok (.iconst 1, 1) := dk_4 (dk_at dksX0_game_1 17 rfl rfl)
theorem dX0_game_42 : decode cX0_game 42 = .ok (.iconst 5, 1) := dk_8 (dk_at dksX0_game_1 18 rfl rfl)
theorem dX0_game_43 : decode cX0_game 43 = .ok (.invokestatic 74, 3) := dk_184 0 74 (dk_at dksX0_game_1 19 rfl rfl)
theorem dX0_game_46 : decode cX0_game 46 = .ok (.ifCond .ne 6, 3) := dk_154 0 6 (dk_at dksX0_game_2 0 rfl rfl)
theorem dX0_game_49 : decode cX0_game 49 = .ok (.bipush (-2), 2) := dk_16 254 (dk_at dksX0_game_2 3 rfl rfl)
theorem dX0_game_51 : decode cX0_game 51 = .ok (.ireturn, 1) := dk_172 (dk_at dksX0_game_2 5 rfl rfl)
theorem dX0_game_52 : decode cX0_game 52 = .ok (.aload_n 0, 1) := dk_42 (dk_at dksX0_game_2 6 rfl rfl)
theorem dX0_game_53 : decode cX0_game 53 = .ok (.invokevirtual 235, 3) := dk_182 0 235 (dk_at dksX0_game_2 7 rfl rfl)
theorem dX0_game_56 : decode cX0_game 56 = .ok (.aload_n 0, 1) := dk_42 (dk_at dksX0_game_2 10 rfl rfl)
theorem dX0_game_57 : decode cX0_game 57 = .ok (.iload_n 1, 1) := dk_27 (dk_at dksX0_game_2 11 rfl rfl)
theorem dX0_game_58 : decode cX0_game 58 = .ok (.iconst (-1), 1) := dk_2 (dk_at dksX0_game_2 12 rfl rfl)
theorem dX0_game_59 : decode cX0_game 59 = .ok (.invokevirtual 313, 3) := dk_182 1 57 (dk_at dksX0_game_2 13 rfl rfl)
theorem dX0_game_62 : decode cX0_game 62 = .ok (.aload_n 0, 1) := dk_42 (dk_at dksX0_game_2 16 rfl rfl)
theorem dX0_game_63 : decode cX0_game 63 = .ok (.getfield 37, 3) := dk_180 0 37 (dk_at dksX0_game_2 17 rfl rfl)
theorem dX0_game_66 : decode cX0_game 66 = .ok (.iconst 0, 1) := dk_3 (dk_at dksX0_game_2 20 rfl rfl)
theorem dX0_game_67 : decode cX0_game 67 = .ok (.aload_n 0, 1) := dk_42 (dk_at dksX0_game_2 21 rfl rfl)
theorem dX0_game_68 : decode cX0_game 68 = .ok (.getfield 58, 3) := dk_180 0 58 (dk_at dksX0_game_3 0 rfl rfl)
theorem dX0_game_71 : decode cX0_game 71 = .ok (.iconst 0, 1) := dk_3 (dk_at dksX0_game_3 3 rfl rfl)
theorem dX0_game_72 : decode cX0_game 72 = .ok (.aaload, 1) := dk_50 (dk_at dksX0_game_3 4 rfl rfl)
theorem dX0_game_73 : decode cX0_game 73 = .ok (.iconst 0, 1) := dk_3 (dk_at dksX0_game_3 5 rfl rfl)
theorem dX0_game_74 : decode cX0_game 74 = .ok (.aload_n 0, 1) := dk_42 (dk_at dksX0_game_3 6 rfl rfl)
theorem dX0_game_75 : decode cX0_game 75 = .ok (.getfield 305, 3) := dk_180 1 49 (dk_at dksX0_game_3 7 rfl rfl)
theorem dX0_game_78 : decode cX0_game 78 = .ok (.invokestatic 136, 3) := dk_184 0 136 (dk_at dksX0_game_3 10 rfl rfl)
theorem dX0_game_81 : decode cX0_game 81 = .ok (.aload_n 0, 1) := dk_42 (dk_at dksX0_game_3 13 rfl rfl)
theorem dX0_game_82 : decode cX0_game 82 = .ok (.iconst 0, 1) := dk_3 (dk_at dksX0_game_3 14 rfl rfl)
theorem dX0_game_83 : decode cX0_game 83 = .ok (.iload_n 3, 1) := dk_29 (dk_at dksX0_game_3 15 rfl rfl)
theorem dX0_game_84 : decode cX0_game 84 = .ok (.iload_n 2, 1) := dk_28 (dk_at dksX0_game_3 16 rfl rfl)
theorem dX0_game_85 : decode cX0_game 85 = .ok (.invokevirtual 389, 3) := dk_182 1 133 (dk_at dksX0_game_3 17 rfl rfl)
theorem dX0_game_88 : decode cX0_game 88 = .ok (.istore 5, 2) := dk_54 5 (dk_at dksX0_game_3 20 rfl rfl)
theorem dX0_game_90 : decode cX0_game 90 = .ok (.iload 4, 2) := dk_21 4 (dk_at dksX0_game_3 22 rfl rfl)
theorem dX0_game_92 : decode cX0_game 92 = .ok (.ifCond .ne 6, 3) := dk_154 0 6 (dk_at dksX0_game_4 0 rfl rfl)
theorem dX0_game_95 : decode cX0_game 95 = .ok (.iload 5, 2) := dk_21 5 (dk_at dksX0_game_4 3 rfl rfl)
theorem dX0_game_97 : decode cX0_game 97 = .ok (.ireturn, 1) := dk_172 (dk_at dksX0_game_4 5 rfl rfl)
theorem dX0_game_98 : decode cX0_game 98 = .ok (.iconst (-1), 1) := dk_2 (dk_at dksX0_game_4 6 rfl rfl)
theorem dX0_game_99 : decode cX0_game 99 = .ok (.istore 6, 2) := dk_54 6 (dk_at dksX0_game_4 7 rfl rfl)
theorem dX0_game_101 : decode cX0_game 101 = .ok (.iload 6, 2) := dk_21 6 (dk_at dksX0_game_4 9 rfl rfl)
theorem dX0_game_103 : decode cX0_game 103 = .ok (.aload_n 0, 1) := dk_42 (dk_at dksX0_game_4 11 rfl rfl)
theorem dX0_game_104 : decode cX0_game 104 = .ok (.getfield 305, 3) := dk_180 1 49 (dk_at dksX0_game_4 12 rfl rfl)
theorem dX0_game_107 : decode cX0_game 107 = .ok (.iconst 1, 1) := dk_4 (dk_at dksX0_game_4 15 rfl rfl)
theorem dX0_game_108 : decode cX0_game 108 = .ok (.isub, 1) := dk_100 (dk_at dksX0_game_4 16 rfl rfl)
theorem dX0_game_109 : decode cX0_game 109 = .ok (.if_icmp .ge 31, 3) := dk_162 0 31 (dk_at dksX0_game_4 17 rfl rfl)
theorem dX0_game_112 : decode cX0_game 112 = .ok (.aload_n 0, 1) := dk_42 (dk_at dksX0_game_4 20 rfl rfl)
theorem dX0_game_113 : decode cX0_game 113 = .ok (.iconst 0, 1) := dk_3 (dk_at dksX0_game_4 21 rfl rfl)
theorem dX0_game_114 : decode cX0_game 114 = .ok (.iload 6, 2) := dk_21 6 (dk_at dksX0_game_4 22 rfl rfl)
theorem dX0_game_116 : decode cX0_game 116 = .ok (.invokevirtual 386, 3) := dk_182 1 130 (dk_at dksX0_game_5 0 rfl rfl)
theorem dX0_game_119 : decode cX0_game 119 = .ok (.aload_n 0, 1) := dk_42 (dk_at dksX0_game_5 3 rfl rfl)
theorem dX0_game_120 : decode cX0_game 120 = .ok (.iconst 1, 1) := dk_4 (dk_at dksX0_game_5 4 rfl rfl)
theorem dX0_game_121 : decode cX0_game 121 = .ok (.iload_n 3, 1) := dk_29 (dk_at dksX0_game_5 5 rfl rfl)
theorem dX0_game_122 : decode cX0_game 122 = .ok (.iload_n 2, 1) := dk_28 (dk_at dksX0_game_5 6 rfl rfl)
theorem dX0_game_123 : decode cX0_game 123 = .ok (.invokevirtual 389, 3) := dk_182 1 133 (dk_at dksX0_game_5 7 rfl rfl)
theorem dX0_game_126 : decode cX0_game 126 = .ok (.iload 5, 2) := dk_21 5 (dk_at dksX0_game_5 10 rfl rfl)
theorem dX0_game_128 : decode cX0_game 128 = .ok (.if_icmp .ne 6, 3) := dk_160 0 6 (dk_at dksX0_game_5 12 rfl rfl)
theorem dX0_game_131 : decode cX0_game 131 = .ok (.iload 6, 2) := dk_21 6 (dk_at dksX0_game_5 15 rfl rfl)
theorem dX0_game_133 : decode cX0_game 133 = .ok (.ireturn, 1) := dk_172 (dk_at dksX0_game_5 17 rfl rfl)
theorem dX0_game_134 : decode cX0_game 134 = .ok (.iinc 6 1, 3) := dk_132 6 1 (dk_at dksX0_game_5 18 rfl rfl)
theorem dX0_game_137 : decode cX0_game 137 = .ok (.goto (-36), 3) := dk_167 255 220 (dk_at dksX0_game_5 21 rfl rfl)
theorem dX0_game_140 : decode cX0_game 140 = .ok (.iconst (-1), 1) := dk_2 (dk_at dksX0_game_6 0 rfl rfl)
theorem dX0_game_141 : decode cX0_game 141 = .ok (.ireturn, 1) := dk_172 (dk_at dksX0_game_6 1 rfl rfl)
abbrev MX0_game : jjM := (yX0_game, cX0_game, 7, (Option.some Jvm.ClassFile.FieldType.int))
theorem npX0_game : yX0_game.cls ≠ "java/lang/invoke/MethodHandle" ∧ yX0_game.cls ≠ "java/lang/invoke/VarHandle" ∧ (parseMethodDescriptor yX0_game.desc).map (fun d => d.parameters.length) = some 4 := by decide +kernel
abbrev cX0_plays : ByteArray := prog_1_method_72_code
def yX0_plays : MethodName := ⟨RX0, "plays", "(III)I"⟩
def dkwX0_plays_3 : List UInt8 := [167, 0, 10, 21, 6, 21, 4, 164, 0, 7, 21, 6, 54, 4, 132, 5, 1, 167, 255, 191, 21, 4, 172]
abbrev dktX0_plays_3 : List UInt8 := dkwX0_plays_3 ++ []
def dkwX0_plays_2 : List UInt8 := [182, 1, 133, 54, 6, 21, 4, 2, 159, 0, 26, 27, 5, 112, 154, 0, 13, 21, 6, 21, 4, 162, 0, 17]
abbrev dktX0_plays_2 : List UInt8 := dkwX0_plays_2 ++ dktX0_plays_3
def dkwX0_plays_1 : List UInt8 := [42, 180, 1, 49, 4, 100, 162, 0, 60, 42, 27, 21, 5, 182, 1, 130, 42, 27, 4, 96, 28, 29]
abbrev dktX0_plays_1 : List UInt8 := dkwX0_plays_1 ++ dktX0_plays_2
def dkwX0_plays_0 : List UInt8 := [27, 28, 160, 0, 14, 42, 180, 0, 58, 27, 50, 29, 184, 1, 126, 172, 2, 54, 4, 2, 54, 5, 21, 5]
abbrev dktX0_plays_0 : List UInt8 := dkwX0_plays_0 ++ dktX0_plays_1
theorem dksX0_plays_0 : cX0_plays.data.toList.drop 0 = dktX0_plays_0 := by decide +kernel
theorem dksX0_plays_1 : cX0_plays.data.toList.drop 24 = dktX0_plays_1 := dk_seg dksX0_plays_0 24 rfl rfl
theorem dksX0_plays_2 : cX0_plays.data.toList.drop 46 = dktX0_plays_2 := dk_seg dksX0_plays_1 22 rfl rfl
theorem dksX0_plays_3 : cX0_plays.data.toList.drop 70 = dktX0_plays_3 := dk_seg dksX0_plays_2 24 rfl rfl
theorem dX0_plays_0 : decode cX0_plays 0 = .ok (.iload_n 1, 1) := dk_27 (dk_at dksX0_plays_0 0 rfl rfl)
theorem dX0_plays_1 : decode cX0_plays 1 = .ok (.iload_n 2, 1) := dk_28 (dk_at dksX0_plays_0 1 rfl rfl)
theorem dX0_plays_2 : decode cX0_plays 2 = .ok (.if_icmp .ne 14, 3) := dk_160 0 14 (dk_at dksX0_plays_0 2 rfl rfl)
theorem dX0_plays_5 : decode cX0_plays 5 = .ok (.aload_n 0, 1) := dk_42 (dk_at dksX0_plays_0 5 rfl rfl)
theorem dX0_plays_6 : decode cX0_plays 6 = .ok (.getfield 58, 3) := dk_180 0 58 (dk_at dksX0_plays_0 6 rfl rfl)
theorem dX0_plays_9 : decode cX0_plays 9 = .ok (.iload_n 1, 1) := dk_27 (dk_at dksX0_plays_0 9 rfl rfl)
theorem dX0_plays_10 : decode cX0_plays 10 = .ok (.aaload, 1) := dk_50 (dk_at dksX0_plays_0 10 rfl rfl)
theorem dX0_plays_11 : decode cX0_plays 11 = .ok (.iload_n 3, 1) := dk_29 (dk_at dksX0_plays_0 11 rfl rfl)
theorem dX0_plays_12 : decode cX0_plays 12 = .ok (.invokestatic 382, 3) := dk_184 1 126 (dk_at dksX0_plays_0 12 rfl rfl)
theorem dX0_plays_15 : decode cX0_plays 15 = .ok (.ireturn, 1) := dk_172 (dk_at dksX0_plays_0 15 rfl rfl)
theorem dX0_plays_16 : decode cX0_plays 16 = .ok (.iconst (-1), 1) := dk_2 (dk_at dksX0_plays_0 16 rfl rfl)
theorem dX0_plays_17 : decode cX0_plays 17 = .ok (.istore 4, 2) := dk_54 4 (dk_at dksX0_plays_0 17 rfl rfl)
theorem dX0_plays_19 : decode cX0_plays 19 = .ok (.iconst (-1), 1) := dk_2 (dk_at dksX0_plays_0 19 rfl rfl)
theorem dX0_plays_20 : decode cX0_plays 20 = .ok (.istore 5, 2) := dk_54 5 (dk_at dksX0_plays_0 20 rfl rfl)
theorem dX0_plays_22 : decode cX0_plays 22 = .ok (.iload 5, 2) := dk_21 5 (dk_at dksX0_plays_0 22 rfl rfl)
theorem dX0_plays_24 : decode cX0_plays 24 = .ok (.aload_n 0, 1) := dk_42 (dk_at dksX0_plays_1 0 rfl rfl)
theorem dX0_plays_25 : decode cX0_plays 25 = .ok (.getfield 305, 3) := dk_180 1 49 (dk_at dksX0_plays_1 1 rfl rfl)
theorem dX0_plays_28 : decode cX0_plays 28 = .ok (.iconst 1, 1) := dk_4 (dk_at dksX0_plays_1 4 rfl rfl)
theorem dX0_plays_29 : decode cX0_plays 29 = .ok (.isub, 1) := dk_100 (dk_at dksX0_plays_1 5 rfl rfl)
theorem dX0_plays_30 : decode cX0_plays 30 = .ok (.if_icmp .ge 60, 3) := dk_162 0 60 (dk_at dksX0_plays_1 6 rfl rfl)
theorem dX0_plays_33 : decode cX0_plays 33 = .ok (.aload_n 0, 1) := dk_42 (dk_at dksX0_plays_1 9 rfl rfl)
theorem dX0_plays_34 : decode cX0_plays 34 = .ok (.iload_n 1, 1) := dk_27 (dk_at dksX0_plays_1 10 rfl rfl)
theorem dX0_plays_35 : decode cX0_plays 35 = .ok (.iload 5, 2) := dk_21 5 (dk_at dksX0_plays_1 11 rfl rfl)
theorem dX0_plays_37 : decode cX0_plays 37 = .ok (.invokevirtual 386, 3) := dk_182 1 130 (dk_at dksX0_plays_1 13 rfl rfl)
theorem dX0_plays_40 : decode cX0_plays 40 = .ok (.aload_n 0, 1) := dk_42 (dk_at dksX0_plays_1 16 rfl rfl)
theorem dX0_plays_41 : decode cX0_plays 41 = .ok (.iload_n 1, 1) := dk_27 (dk_at dksX0_plays_1 17 rfl rfl)
theorem dX0_plays_42 : decode cX0_plays 42 = .ok (.iconst 1, 1) := dk_4 (dk_at dksX0_plays_1 18 rfl rfl)
theorem dX0_plays_43 : decode cX0_plays 43 = .ok (.iadd, 1) := dk_96 (dk_at dksX0_plays_1 19 rfl rfl)
theorem dX0_plays_44 : decode cX0_plays 44 = .ok (.iload_n 2, 1) := dk_28 (dk_at dksX0_plays_1 20 rfl rfl)
theorem dX0_plays_45 : decode cX0_plays 45 = .ok (.iload_n 3, 1) := dk_29 (dk_at dksX0_plays_1 21 rfl rfl)
theorem dX0_plays_46 : decode cX0_plays 46 = .ok (.invokevirtual 389, 3) := dk_182 1 133 (dk_at dksX0_plays_2 0 rfl rfl)
theorem dX0_plays_49 : decode cX0_plays 49 = .ok (.istore 6, 2) := dk_54 6 (dk_at dksX0_plays_2 3 rfl rfl)
theorem dX0_plays_51 : decode cX0_plays 51 = .ok (.iload 4, 2) := dk_21 4 (dk_at dksX0_plays_2 5 rfl rfl)
theorem dX0_plays_53 : decode cX0_plays 53 = .ok (.iconst (-1), 1) := dk_2 (dk_at dksX0_plays_2 7 rfl rfl)
theorem dX0_plays_54 : decode cX0_plays 54 = .ok (.if_icmp .eq 26, 3) := dk_159 0 26 (dk_at dksX0_plays_2 8 rfl rfl)
theorem dX0_plays_57 : decode cX0_plays 57 = .ok (.iload_n 1, 1) := dk_27 (dk_at dksX0_plays_2 11 rfl rfl)
theorem dX0_plays_58 : decode cX0_plays 58 = .ok (.iconst 2, 1) := dk_5 (dk_at dksX0_plays_2 12 rfl rfl)
theorem dX0_plays_59 : decode cX0_plays 59 = .ok (.irem, 1) := dk_112 (dk_at dksX0_plays_2 13 rfl rfl)
theorem dX0_plays_60 : decode cX0_plays 60 = .ok (.ifCond .ne 13, 3) := dk_154 0 13 (dk_at dksX0_plays_2 14 rfl rfl)
theorem dX0_plays_63 : decode cX0_plays 63 = .ok (.iload 6, 2) := dk_21 6 (dk_at dksX0_plays_2 17 rfl rfl)
theorem dX0_plays_65 : decode cX0_plays 65 = .ok (.iload 4, 2) := dk_21 4 (dk_at dksX0_plays_2 19 rfl rfl)
theorem dX0_plays_67 : decode cX0_plays 67 = .ok (.if_icmp .ge 17, 3) := dk_162 0 17 (dk_at dksX0_plays_2 21 rfl rfl)
theorem dX0_plays_70 : decode cX0_plays 70 = .ok (.goto 10, 3) := dk_167 0 10 (dk_at dksX0_plays_3 0 rfl rfl)
theorem dX0_plays_73 : decode cX0_plays 73 = .ok (.iload 6, 2) := dk_21 6 (dk_at dksX0_plays_3 3 rfl rfl)
theorem dX0_plays_75 : decode cX0_plays 75 = .ok (.iload 4, 2) := dk_21 4 (dk_at dksX0_plays_3 5 rfl rfl)
theorem dX0_plays_77 : decode cX0_plays 77 = .ok (.if_icmp .le 7, 3) := dk_164 0 7 (dk_at dksX0_plays_3 7 rfl rfl)
theorem dX0_plays_80 : decode cX0_plays 80 = .ok (.iload 6, 2) := dk_21 6 (dk_at dksX0_plays_3 10 rfl rfl)
theorem dX0_plays_82 : decode cX0_plays 82 = .ok (.istore 4, 2) := dk_54 4 (dk_at dksX0_plays_3 12 rfl rfl)
theorem dX0_plays_84 : decode cX0_plays 84 = .ok (.iinc 5 1, 3) := dk_132 5 1 (dk_at dksX0_plays_3 14 rfl rfl)
theorem dX0_plays_87 : decode cX0_plays 87 = .ok (.goto (-65), 3) := dk_167 255 191 (dk_at dksX0_plays_3 17 rfl rfl)
theorem dX0_plays_90 : decode cX0_plays 90 = .ok (.iload 4, 2) := dk_21 4 (dk_at dksX0_plays_3 20 rfl rfl)
theorem dX0_plays_92 : decode cX0_plays 92 = .ok (.ireturn, 1) := dk_172 (dk_at dksX0_plays_3 22 rfl rfl)
abbrev MX0_plays : jjM := (yX0_plays, cX0_plays, 7, (Option.some Jvm.ClassFile.FieldType.int))
theorem npX0_plays : yX0_plays.cls ≠ "java/lang/invoke/MethodHandle" ∧ yX0_plays.cls ≠ "java/lang/invoke/VarHandle" ∧ (parseMethodDescriptor yX0_plays.desc).map (fun d => d.parameters.length) = some 3 := by decide +kernel
abbrev cX0_placeIn : ByteArray := prog_1_method_70_code
def yX0_placeIn : MethodName := ⟨RX0, "placeIn", "([II)I"⟩
def dkwX0_placeIn_0 : List UInt8 := [3, 61, 42, 28, 46, 27, 159, 0, 9, 132, 2, 1, 167, 255, 246, 28, 172]
abbrev dktX0_placeIn_0 : List UInt8 := dkwX0_placeIn_0 ++ []
theorem dksX0_placeIn_0 : cX0_placeIn.data.toList.drop 0 = dktX0_placeIn_0 := by decide +kernel
theorem dX0_placeIn_0 : decode cX0_placeIn 0 = .ok (.iconst 0, 1) := dk_3 (dk_at dksX0_placeIn_0 0 rfl rfl)
theorem dX0_placeIn_1 : decode cX0_placeIn 1 = .ok (.istore_n 2, 1) := dk_61 (dk_at dksX0_placeIn_0 1 rfl rfl)
theorem dX0_placeIn_2 : decode cX0_placeIn 2 = .ok (.aload_n 0, 1) := dk_42 (dk_at dksX0_placeIn_0 2 rfl rfl)
theorem dX0_placeIn_3 : decode cX0_placeIn 3 = .ok (.iload_n 2, 1) := dk_28 (dk_at dksX0_placeIn_0 3 rfl rfl)
theorem dX0_placeIn_4 : decode cX0_placeIn 4 = .ok (.iaload, 1) := dk_46 (dk_at dksX0_placeIn_0 4 rfl rfl)
theorem dX0_placeIn_5 : decode cX0_placeIn 5 = .ok (.iload_n 1, 1) := dk_27 (dk_at dksX0_placeIn_0 5 rfl rfl)
theorem dX0_placeIn_6 : decode cX0_placeIn 6 = .ok (.if_icmp .eq 9, 3) := dk_159 0 9 (dk_at dksX0_placeIn_0 6 rfl rfl)
theorem dX0_placeIn_9 : decode cX0_placeIn 9 = .ok (.iinc 2 1, 3) := dk_132 2 1 (dk_at dksX0_placeIn_0 9 rfl rfl)
theorem dX0_placeIn_12 : decode cX0_placeIn 12 = .ok (.goto (-10), 3) := dk_167 255 246 (dk_at dksX0_placeIn_0 12 rfl rfl)
theorem dX0_placeIn_15 : decode cX0_placeIn 15 = .ok (.iload_n 2, 1) := dk_28 (dk_at dksX0_placeIn_0 15 rfl rfl)
theorem dX0_placeIn_16 : decode cX0_placeIn 16 = .ok (.ireturn, 1) := dk_172 (dk_at dksX0_placeIn_0 16 rfl rfl)
abbrev MX0_placeIn : jjM := (yX0_placeIn, cX0_placeIn, 3, (Option.some Jvm.ClassFile.FieldType.int))
theorem npX0_placeIn : yX0_placeIn.cls ≠ "java/lang/invoke/MethodHandle" ∧ yX0_placeIn.cls ≠ "java/lang/invoke/VarHandle" ∧ (parseMethodDescriptor yX0_placeIn.desc).map (fun d => d.parameters.length) = some 2 := by decide +kernel
abbrev cX0_moves : ByteArray := prog_1_method_71_code
def yX0_moves : MethodName := ⟨RX0, "moves", "(II)V"⟩
def dkwX0_moves_4 : List UInt8 := [5, 112, 182, 0, 227, 62, 177]
abbrev dktX0_moves_4 : List UInt8 := dkwX0_moves_4 ++ []
def dkwX0_moves_3 : List UInt8 := [180, 0, 58, 27, 4, 96, 50, 3, 42, 180, 1, 49, 42, 180, 0, 12, 180, 0, 78, 16, 44, 46, 27, 96]
abbrev dktX0_moves_3 : List UInt8 := dkwX0_moves_3 ++ dktX0_moves_4
def dkwX0_moves_2 : List UInt8 := [42, 180, 0, 58, 27, 4, 96, 50, 28, 4, 96, 42, 180, 0, 58, 27, 50, 28, 46, 79, 42, 42]
abbrev dktX0_moves_2 : List UInt8 := dkwX0_moves_2 ++ dktX0_moves_3
def dkwX0_moves_1 : List UInt8 := [2, 159, 0, 43, 42, 180, 0, 58, 27, 4, 96, 50, 28, 42, 180, 0, 58, 27, 50, 28, 4, 96, 46, 79]
abbrev dktX0_moves_1 : List UInt8 := dkwX0_moves_1 ++ dktX0_moves_2
def dkwX0_moves_0 : List UInt8 := [42, 180, 0, 58, 27, 50, 3, 42, 180, 0, 58, 27, 4, 96, 50, 3, 42, 180, 1, 49, 184, 0, 136, 28]
abbrev dktX0_moves_0 : List UInt8 := dkwX0_moves_0 ++ dktX0_moves_1
theorem dksX0_moves_0 : cX0_moves.data.toList.drop 0 = dktX0_moves_0 := by decide +kernel
theorem dksX0_moves_1 : cX0_moves.data.toList.drop 24 = dktX0_moves_1 := dk_seg dksX0_moves_0 24 rfl rfl
theorem dksX0_moves_2 : cX0_moves.data.toList.drop 48 = dktX0_moves_2 := dk_seg dksX0_moves_1 24 rfl rfl
theorem dksX0_moves_3 : cX0_moves.data.toList.drop 70 = dktX0_moves_3 := dk_seg dksX0_moves_2 22 rfl rfl
theorem dksX0_moves_4 : cX0_moves.data.toList.drop 94 = dktX0_moves_4 := dk_seg dksX0_moves_3 24 rfl rfl
theorem dX0_moves_0 : decode cX0_moves 0 = .ok (.aload_n 0, 1) := dk_42 (dk_at dksX0_moves_0 0 rfl rfl)
theorem dX0_moves_1 : decode cX0_moves 1 = .ok (.getfield 58, 3) := dk_180 0 58 (dk_at dksX0_moves_0 1 rfl rfl)
theorem dX0_moves_4 : decode cX0_moves 4 = .ok (.iload_n 1, 1) := dk_27 (dk_at dksX0_moves_0 4 rfl rfl)
theorem dX0_moves_5 : decode cX0_moves 5 = .ok (.aaload, 1) := dk_50 (dk_at dksX0_moves_0 5 rfl rfl)
theorem dX0_moves_6 : decode cX0_moves 6 = .ok (.iconst 0, 1) := dk_3 (dk_at dksX0_moves_0 6 rfl rfl)
theorem dX0_moves_7 : decode cX0_moves 7 = .ok (.aload_n 0, 1) := dk_42 (dk_at dksX0_moves_0 7 rfl rfl)
theorem dX0_moves_8 : decode cX0_moves 8 = .ok (.getfield 58, 3) := dk_180 0 58 (dk_at dksX0_moves_0 8 rfl rfl)
theorem dX0_moves_11 : decode cX0_moves 11 = .ok (.iload_n 1, 1) := dk_27 (dk_at dksX0_moves_0 11 rfl rfl)
theorem dX0_moves_12 : decode cX0_moves 12 = .ok (.iconst 1, 1) := dk_4 (dk_at dksX0_moves_0 12 rfl rfl)
theorem dX0_moves_13 : decode cX0_moves 13 = .ok (.iadd, 1) := dk_96 (dk_at dksX0_moves_0 13 rfl rfl)
theorem dX0_moves_14 : decode cX0_moves 14 = .ok (.aaload, 1) := dk_50 (dk_at dksX0_moves_0 14 rfl rfl)
theorem dX0_moves_15 : decode cX0_moves 15 = .ok (.iconst 0, 1) := dk_3 (dk_at dksX0_moves_0 15 rfl rfl)
theorem dX0_moves_16 : decode cX0_moves 16 = .ok (.aload_n 0, 1) := dk_42 (dk_at dksX0_moves_0 16 rfl rfl)
theorem dX0_moves_17 : decode cX0_moves 17 = .ok (.getfield 305, 3) := dk_180 1 49 (dk_at dksX0_moves_0 17 rfl rfl)
theorem dX0_moves_20 : decode cX0_moves 20 = .ok (.invokestatic 136, 3) := dk_184 0 136 (dk_at dksX0_moves_0 20 rfl rfl)
theorem dX0_moves_23 : decode cX0_moves 23 = .ok (.iload_n 2, 1) := dk_28 (dk_at dksX0_moves_0 23 rfl rfl)
theorem dX0_moves_24 : decode cX0_moves 24 = .ok (.iconst (-1), 1) := dk_2 (dk_at dksX0_moves_1 0 rfl rfl)
theorem dX0_moves_25 : decode cX0_moves 25 = .ok (.if_icmp .eq 43, 3) := dk_159 0 43 (dk_at dksX0_moves_1 1 rfl rfl)
theorem dX0_moves_28 : decode cX0_moves 28 = .ok (.aload_n 0, 1) := dk_42 (dk_at dksX0_moves_1 4 rfl rfl)
theorem dX0_moves_29 : decode cX0_moves 29 = .ok (.getfield 58, 3) := dk_180 0 58 (dk_at dksX0_moves_1 5 rfl rfl)
theorem dX0_moves_32 : decode cX0_moves 32 = .ok (.iload_n 1, 1) := dk_27 (dk_at dksX0_moves_1 8 rfl rfl)
theorem dX0_moves_33 : decode cX0_moves 33 = .ok (.iconst 1, 1) := dk_4 (dk_at dksX0_moves_1 9 rfl rfl)
theorem dX0_moves_34 : decode cX0_moves 34 = .ok (.iadd, 1) := dk_96 (dk_at dksX0_moves_1 10 rfl rfl)
theorem dX0_moves_35 : decode cX0_moves 35 = .ok (.aaload, 1) := dk_50 (dk_at dksX0_moves_1 11 rfl rfl)
theorem dX0_moves_36 : decode cX0_moves 36 = .ok (.iload_n 2, 1) := dk_28 (dk_at dksX0_moves_1 12 rfl rfl)
theorem dX0_moves_37 : decode cX0_moves 37 = .ok (.aload_n 0, 1) := dk_42 (dk_at dksX0_moves_1 13 rfl rfl)
theorem dX0_moves_38 : decode cX0_moves 38 = .ok (.getfield 58, 3) := dk_180 0 58 (dk_at dksX0_moves_1 14 rfl rfl)
theorem dX0_moves_41 : decode cX0_moves 41 = .ok (.iload_n 1, 1) := dk_27 (dk_at dksX0_moves_1 17 rfl rfl)
theorem dX0_moves_42 : decode cX0_moves 42 = .ok (.aaload, 1) := dk_50 (dk_at dksX0_moves_1 18 rfl rfl)
theorem dX0_moves_43 : decode cX0_moves 43 = .ok (.iload_n 2, 1) := dk_28 (dk_at dksX0_moves_1 19 rfl rfl)
theorem dX0_moves_44 : decode cX0_moves 44 = .ok (.iconst 1, 1) := dk_4 (dk_at dksX0_moves_1 20 rfl rfl)
theorem dX0_moves_45 : decode cX0_moves 45 = .ok (.iadd, 1) := dk_96 (dk_at dksX0_moves_1 21 rfl rfl)
theorem dX0_moves_46 : decode cX0_moves 46 = .ok (.iaload, 1) := dk_46 (dk_at dksX0_moves_1 22 rfl rfl)
theorem dX0_moves_47 : decode cX0_moves 47 = .ok (.iastore, 1) := dk_79 (dk_at dksX0_moves_1 23 rfl rfl)
theorem dX0_moves_48 : decode cX0_moves 48 = .ok (.aload_n 0, 1) := dk_42 (dk_at dksX0_moves_2 0 rfl rfl)
theorem dX0_moves_49 : decode cX0_moves 49 = .ok (.getfield 58, 3) := dk_180 0 58 (dk_at dksX0_moves_2 1 rfl rfl)
theorem dX0_moves_52 : decode cX0_moves 52 = .ok (.iload_n 1, 1) := dk_27 (dk_at dksX0_moves_2 4 rfl rfl)
theorem dX0_moves_53 : decode cX0_moves 53 = .ok (.iconst 1, 1) := dk_4 (dk_at dksX0_moves_2 5 rfl rfl)
theorem dX0_moves_54 : decode cX0_moves 54 = .ok (.iadd, 1) := dk_96 (dk_at dksX0_moves_2 6 rfl rfl)
theorem dX0_moves_55 : decode cX0_moves 55 = .ok (.aaload, 1) := dk_50 (dk_at dksX0_moves_2 7 rfl rfl)
theorem dX0_moves_56 : decode cX0_moves 56 = .ok (.iload_n 2, 1) := dk_28 (dk_at dksX0_moves_2 8 rfl rfl)
theorem dX0_moves_57 : decode cX0_moves 57 = .ok (.iconst 1, 1) := dk_4 (dk_at dksX0_moves_2 9 rfl rfl)
theorem dX0_moves_58 : decode cX0_moves 58 = .ok (.iadd, 1) := dk_96 (dk_at dksX0_moves_2 10 rfl rfl)
theorem dX0_moves_59 : decode cX0_moves 59 = .ok (.aload_n 0, 1) := dk_42 (dk_at dksX0_moves_2 11 rfl rfl)
theorem dX0_moves_60 : decode cX0_moves 60 = .ok (.getfield 58, 3) := dk_180 0 58 (dk_at dksX0_moves_2 12 rfl rfl)
theorem dX0_moves_63 : decode cX0_moves 63 = .ok (.iload_n 1, 1) := dk_27 (dk_at dksX0_moves_2 15 rfl rfl)
theorem dX0_moves_64 : decode cX0_moves 64 = .ok (.aaload, 1) := dk_50 (dk_at dksX0_moves_2 16 rfl rfl)
theorem dX0_moves_65 : decode cX0_moves 65 = .ok (.iload_n 2, 1) := dk_28 (dk_at dksX0_moves_2 17 rfl rfl)
theorem dX0_moves_66 : decode cX0_moves 66 = .ok (.iaload, 1) := dk_46 (dk_at dksX0_moves_2 18 rfl rfl)
theorem dX0_moves_67 : decode cX0_moves 67 = .ok (.iastore, 1) := dk_79 (dk_at dksX0_moves_2 19 rfl rfl)
theorem dX0_moves_68 : decode cX0_moves 68 = .ok (.aload_n 0, 1) := dk_42 (dk_at dksX0_moves_2 20 rfl rfl)
theorem dX0_moves_69 : decode cX0_moves 69 = .ok (.aload_n 0, 1) := dk_42 (dk_at dksX0_moves_2 21 rfl rfl)
theorem dX0_moves_70 : decode cX0_moves 70 = .ok (.getfield 58, 3) := dk_180 0 58 (dk_at dksX0_moves_3 0 rfl rfl)
theorem dX0_moves_73 : decode cX0_moves 73 = .ok (.iload_n 1, 1) := dk_27 (dk_at dksX0_moves_3 3 rfl rfl)
theorem dX0_moves_74 : decode cX0_moves 74 = .ok (.iconst 1, 1) := dk_4 (dk_at dksX0_moves_3 4 rfl rfl)
theorem dX0_moves_75 : decode cX0_moves 75 = .ok (.iadd, 1) := dk_96 (dk_at dksX0_moves_3 5 rfl rfl)
theorem dX0_moves_76 : decode cX0_moves 76 = .ok (.aaload, 1) := dk_50 (dk_at dksX0_moves_3 6 rfl rfl)
theorem dX0_moves_77 : decode cX0_moves 77 = .ok (.iconst 0, 1) := dk_3 (dk_at dksX0_moves_3 7 rfl rfl)
theorem dX0_moves_78 : decode cX0_moves 78 = .ok (.aload_n 0, 1) := dk_42 (dk_at dksX0_moves_3 8 rfl rfl)
theorem dX0_moves_79 : decode cX0_moves 79 = .ok (.getfield 305, 3) := dk_180 1 49 (dk_at dksX0_moves_3 9 rfl rfl)
theorem dX0_moves_82 : decode cX0_moves 82 = .ok (.aload_n 0, 1) := dk_42 (dk_at dksX0_moves_3 12 rfl rfl)
theorem dX0_moves_83 : decode cX0_moves 83 = .ok (.getfield 12, 3) := dk_180 0 12 (dk_at dksX0_moves_3 13 rfl rfl)
theorem dX0_moves_86 : decode cX0_moves 86 = .ok (.getfield 78, 3) := dk_180 0 78 (dk_at dksX0_moves_3 16 rfl rfl)
theorem dX0_moves_89 : decode cX0_moves 89 = .ok (.bipush 44, 2) := dk_16 44 (dk_at dksX0_moves_3 19 rfl rfl)
theorem dX0_moves_91 : decode cX0_moves 91 = .ok (.iaload, 1) := dk_46 (dk_at dksX0_moves_3 21 rfl rfl)
theorem dX0_moves_92 : decode cX0_moves 92 = .ok (.iload_n 1, 1) := dk_27 (dk_at dksX0_moves_3 22 rfl rfl)
theorem dX0_moves_93 : decode cX0_moves 93 = .ok (.iadd, 1) := dk_96 (dk_at dksX0_moves_3 23 rfl rfl)
theorem dX0_moves_94 : decode cX0_moves 94 = .ok (.iconst 2, 1) := dk_5 (dk_at dksX0_moves_4 0 rfl rfl)
theorem dX0_moves_95 : decode cX0_moves 95 = .ok (.irem, 1) := dk_112 (dk_at dksX0_moves_4 1 rfl rfl)
theorem dX0_moves_96 : decode cX0_moves 96 = .ok (.invokevirtual 227, 3) := dk_182 0 227 (dk_at dksX0_moves_4 2 rfl rfl)
theorem dX0_moves_99 : decode cX0_moves 99 = .ok (.istore_n 3, 1) := dk_62 (dk_at dksX0_moves_4 5 rfl rfl)
theorem dX0_moves_100 : decode cX0_moves 100 = .ok (.return_, 1) := dk_177 (dk_at dksX0_moves_4 6 rfl rfl)
abbrev MX0_moves : jjM := (yX0_moves, cX0_moves, 4, (Option.none : Option Jvm.ClassFile.FieldType))
theorem npX0_moves : yX0_moves.cls ≠ "java/lang/invoke/MethodHandle" ∧ yX0_moves.cls ≠ "java/lang/invoke/VarHandle" ∧ (parseMethodDescriptor yX0_moves.desc).map (fun d => d.parameters.length) = some 2 := by decide +kernel
abbrev cX0_catalogue : ByteArray := prog_1_method_74_code
def yX0_catalogue : MethodName := ⟨RX0, "catalogue", "(IIIZ)I"⟩
def dkwX0_catalogue_5 : List UInt8 := [21, 4, 153, 0, 11, 42, 29, 182, 1, 136, 167, 0, 9, 42, 180, 0, 61, 29, 46, 172]
abbrev dktX0_catalogue_5 : List UInt8 := dkwX0_catalogue_5 ++ []
def dkwX0_catalogue_4 : List UInt8 := [5, 112, 182, 0, 227, 54, 6, 132, 5, 1, 167, 255, 200, 29, 42, 180, 1, 49, 161, 0, 5, 2, 172]
abbrev dktX0_catalogue_4 : List UInt8 := dkwX0_catalogue_4 ++ dktX0_catalogue_5
def dkwX0_catalogue_3 : List UInt8 := [79, 42, 42, 180, 0, 37, 3, 42, 180, 1, 49, 42, 180, 0, 12, 180, 0, 78, 16, 44, 46, 21, 5, 96]
abbrev dktX0_catalogue_3 : List UInt8 := dkwX0_catalogue_3 ++ dktX0_catalogue_4
def dkwX0_catalogue_2 : List UInt8 := [54, 5, 21, 5, 28, 163, 0, 56, 42, 180, 0, 61, 42, 180, 0, 37, 27, 184, 1, 126, 92, 46, 4, 96]
abbrev dktX0_catalogue_2 : List UInt8 := dkwX0_catalogue_2 ++ dktX0_catalogue_3
def dkwX0_catalogue_1 : List UInt8 := [42, 182, 0, 235, 42, 42, 27, 182, 0, 83, 2, 182, 1, 57, 42, 180, 0, 61, 3, 184, 1, 114, 3]
abbrev dktX0_catalogue_1 : List UInt8 := dkwX0_catalogue_1 ++ dktX0_catalogue_2
def dkwX0_catalogue_0 : List UInt8 := [42, 27, 182, 1, 46, 153, 0, 17, 28, 3, 16, 99, 184, 0, 74, 153, 0, 7, 29, 156, 0, 5, 2, 172]
abbrev dktX0_catalogue_0 : List UInt8 := dkwX0_catalogue_0 ++ dktX0_catalogue_1
theorem dksX0_catalogue_0 : cX0_catalogue.data.toList.drop 0 = dktX0_catalogue_0 := by decide +kernel
theorem dksX0_catalogue_1 : cX0_catalogue.data.toList.drop 24 = dktX0_catalogue_1 := dk_seg dksX0_catalogue_0 24 rfl rfl
theorem dksX0_catalogue_2 : cX0_catalogue.data.toList.drop 47 = dktX0_catalogue_2 := dk_seg dksX0_catalogue_1 23 rfl rfl
theorem dksX0_catalogue_3 : cX0_catalogue.data.toList.drop 71 = dktX0_catalogue_3 := dk_seg dksX0_catalogue_2 24 rfl rfl
theorem dksX0_catalogue_4 : cX0_catalogue.data.toList.drop 95 = dktX0_catalogue_4 := dk_seg dksX0_catalogue_3 24 rfl rfl
theorem dksX0_catalogue_5 : cX0_catalogue.data.toList.drop 118 = dktX0_catalogue_5 := dk_seg dksX0_catalogue_4 23 rfl rfl
theorem dX0_catalogue_0 : decode cX0_catalogue 0 = .ok (.aload_n 0, 1) := dk_42 (dk_at dksX0_catalogue_0 0 rfl rfl)
theorem dX0_catalogue_1 : decode cX0_catalogue 1 = .ok (.iload_n 1, 1) := dk_27 (dk_at dksX0_catalogue_0 1 rfl rfl)
theorem dX0_catalogue_2 : decode cX0_catalogue 2 = .ok (.invokevirtual 302, 3) := dk_182 1 46 (dk_at dksX0_catalogue_0 2 rfl rfl)
theorem dX0_catalogue_5 : decode cX0_catalogue 5 = .ok (.ifCond .eq 17, 3) := dk_153 0 17 (dk_at dksX0_catalogue_0 5 rfl rfl)
theorem dX0_catalogue_8 : decode cX0_catalogue 8 = .ok (.iload_n 2, 1) := dk_28 (dk_at dksX0_catalogue_0 8 rfl rfl)
theorem dX0_catalogue_9 : decode cX0_catalogue 9 = .ok (.iconst 0, 1) := dk_3 (dk_at dksX0_catalogue_0 9 rfl rfl)
theorem dX0_catalogue_10 : decode cX0_catalogue 10 = .ok (.bipush 99, 2) := dk_16 99 (dk_at dksX0_catalogue_0 10 rfl rfl)
theorem dX0_catalogue_12 : decode cX0_catalogue 12 = .ok (.invokestatic 74, 3) := dk_184 0 74 (dk_at dksX0_catalogue_0 12 rfl rfl)
theorem dX0_catalogue_15 : decode cX0_catalogue 15 = .ok (.ifCond .eq 7, 3) := dk_153 0 7 (dk_at dksX0_catalogue_0 15 rfl rfl)
theorem dX0_catalogue_18 : decode cX0_catalogue 18 = .ok (.iload_n 3, 1) := dk_29 (dk_at dksX0_catalogue_0 18 rfl rfl)
theorem dX0_catalogue_19 : decode cX0_catalogue 19 = .ok (.ifCond .ge 5, 3) := dk_156 0 5 (dk_at dksX0_catalogue_0 19 rfl rfl)
theorem dX0_catalogue_22 : decode cX0_catalogue 22 = .ok (.iconst (-1), 1) := dk_2 (dk_at dksX0_catalogue_0 22 rfl rfl)
theorem dX0_catalogue_23 : decode cX0_catalogue 23 = .ok (.ireturn, 1) := dk_172 (dk_at dksX0_catalogue_0 23 rfl rfl)
theorem dX0_catalogue_24 : decode cX0_catalogue 24 = .ok (.aload_n 0, 1) := dk_42 (dk_at dksX0_catalogue_1 0 rfl rfl)
theorem dX0_catalogue_25 : decode cX0_catalogue 25 = .ok (.invokevirtual 235, 3) := dk_182 0 235 (dk_at dksX0_catalogue_1 1 rfl rfl)
theorem dX0_catalogue_28 : decode cX0_catalogue 28 = .ok (.aload_n 0, 1) := dk_42 (dk_at dksX0_catalogue_1 4 rfl rfl)
theorem dX0_catalogue_29 : decode cX0_catalogue 29 = .ok (.aload_n 0, 1) := dk_42 (dk_at dksX0_catalogue_1 5 rfl rfl)
theorem dX0_catalogue_30 : decode cX0_catalogue 30 = .ok (.iload_n 1, 1) := dk_27 (dk_at dksX0_catalogue_1 6 rfl rfl)
theorem dX0_catalogue_31 : decode cX0_catalogue 31 = .ok (.invokevirtual 83, 3) := dk_182 0 83 (dk_at dksX0_catalogue_1 7 rfl rfl)
theorem dX0_catalogue_34 : decode cX0_catalogue 34 = .ok (.iconst (-1), 1) := dk_2 (dk_at dksX0_catalogue_1 10 rfl rfl)
theorem dX0_catalogue_35 : decode cX0_catalogue 35 = .ok (.invokevirtual 313, 3) := dk_182 1 57 (dk_at dksX0_catalogue_1 11 rfl rfl)
theorem dX0_catalogue_38 : decode cX0_catalogue 38 = .ok (.aload_n 0, 1) := dk_42 (dk_at dksX0_catalogue_1 14 rfl rfl)
theorem dX0_catalogue_39 : decode cX0_catalogue 39 = .ok (.getfield 61, 3) := dk_180 0 61 (dk_at dksX0_catalogue_1 15 rfl rfl)
theorem dX0_catalogue_42 : decode cX0_catalogue 42 = .ok (.iconst 0, 1) := dk_3 (dk_at dksX0_catalogue_1 18 rfl rfl)
theorem dX0_catalogue_43 : decode cX0_catalogue 43 = .ok (.invokestatic 370, 3) := dk_184 1 114 (dk_at dksX0_catalogue_1 19 rfl rfl)
theorem dX0_catalogue_46 : decode cX0_catalogue 46 = .ok (.iconst 0, 1) := dk_3 (dk_at dksX0_catalogue_1 22 rfl rfl)
theorem dX0_catalogue_47 : decode cX0_catalogue 47 = .ok (.istore 5, 2) := dk_54 5 (dk_at dksX0_catalogue_2 0 rfl rfl)
theorem dX0_catalogue_49 : decode cX0_catalogue 49 = .ok (.iload 5, 2) := dk_21 5 (dk_at dksX0_catalogue_2 2 rfl rfl)
theorem dX0_catalogue_51 : decode cX0_catalogue 51 = .ok (.iload_n 2, 1) := dk_28 (dk_at dksX0_catalogue_2 4 rfl rfl)
theorem dX0_catalogue_52 : decode cX0_catalogue 52 = .ok (.if_icmp .gt 56, 3) := dk_163 0 56 (dk_at dksX0_catalogue_2 5 rfl rfl)
theorem dX0_catalogue_55 : decode cX0_catalogue 55 = .ok (.aload_n 0, 1) := dk_42 (dk_at dksX0_catalogue_2 8 rfl rfl)
theorem dX0_catalogue_56 : decode cX0_catalogue 56 = .ok (.getfield 61, 3) := dk_180 0 61 (dk_at dksX0_catalogue_2 9 rfl rfl)
theorem dX0_catalogue_59 : decode cX0_catalogue 59 = .ok (.aload_n 0, 1) := dk_42 (dk_at dksX0_catalogue_2 12 rfl rfl)
theorem dX0_catalogue_60 : decode cX0_catalogue 60 = .ok (.getfield 37, 3) := dk_180 0 37 (dk_at dksX0_catalogue_2 13 rfl rfl)
theorem dX0_catalogue_63 : decode cX0_catalogue 63 = .ok (.iload_n 1, 1) := dk_27 (dk_at dksX0_catalogue_2 16 rfl rfl)
theorem dX0_catalogue_64 : decode cX0_catalogue 64 = .ok (.invokestatic 382, 3) := dk_184 1 126 (dk_at dksX0_catalogue_2 17 rfl rfl)
theorem dX0_catalogue_67 : decode cX0_catalogue 67 = .ok (.dup2, 1) := dk_92 (dk_at dksX0_catalogue_2 20 rfl rfl)
theorem dX0_catalogue_68 : decode cX0_catalogue 68 = .ok (.iaload, 1) := dk_46 (dk_at dksX0_catalogue_2 21 rfl rfl)
theorem dX0_catalogue_69 : decode cX0_catalogue 69 = .ok (.iconst 1, 1) := dk_4 (dk_at dksX0_catalogue_2 22 rfl rfl)
theorem dX0_catalogue_70 : decode cX0_catalogue 70 = .ok (.iadd, 1) := dk_96 (dk_at dksX0_catalogue_2 23 rfl rfl)
theorem dX0_catalogue_71 : decode cX0_catalogue 71 = .ok (.iastore, 1) := dk_79 (dk_at dksX0_catalogue_3 0 rfl rfl)
theorem dX0_catalogue_72 : decode cX0_catalogue 72 = .ok (.aload_n 0, 1) := dk_42 (dk_at dksX0_catalogue_3 1 rfl rfl)
theorem dX0_catalogue_73 : decode cX0_catalogue 73 = .ok (.aload_n 0, 1) := dk_42 (dk_at dksX0_catalogue_3 2 rfl rfl)
theorem dX0_catalogue_74 : decode cX0_catalogue 74 = .ok (.getfield 37, 3) := dk_180 0 37 (dk_at dksX0_catalogue_3 3 rfl rfl)
theorem dX0_catalogue_77 : decode cX0_catalogue 77 = .ok (.iconst 0, 1) := dk_3 (dk_at dksX0_catalogue_3 6 rfl rfl)
theorem dX0_catalogue_78 : decode cX0_catalogue 78 = .ok (.aload_n 0, 1) := dk_42 (dk_at dksX0_catalogue_3 7 rfl rfl)
theorem dX0_catalogue_79 : decode cX0_catalogue 79 = .ok (.getfield 305, 3) := dk_180 1 49 (dk_at dksX0_catalogue_3 8 rfl rfl)
theorem dX0_catalogue_82 : decode cX0_catalogue 82 = .ok (.aload_n 0, 1) := dk_42 (dk_at dksX0_catalogue_3 11 rfl rfl)
theorem dX0_catalogue_83 : decode cX0_catalogue 83 = .ok (.getfield 12, 3) := dk_180 0 12 (dk_at dksX0_catalogue_3 12 rfl rfl)
theorem dX0_catalogue_86 : decode cX0_catalogue 86 = .ok (.getfield 78, 3) := dk_180 0 78 (dk_at dksX0_catalogue_3 15 rfl rfl)
theorem dX0_catalogue_89 : decode cX0_catalogue 89 = .ok (.bipush 44, 2) := dk_16 44 (dk_at dksX0_catalogue_3 18 rfl rfl)
theorem dX0_catalogue_91 : decode cX0_catalogue 91 = .ok (.iaload, 1) := dk_46 (dk_at dksX0_catalogue_3 20 rfl rfl)
theorem dX0_catalogue_92 : decode cX0_catalogue 92 = .ok (.iload 5, 2) := dk_21 5 (dk_at dksX0_catalogue_3 21 rfl rfl)
theorem dX0_catalogue_94 : decode cX0_catalogue 94 = .ok (.iadd, 1) := dk_96 (dk_at dksX0_catalogue_3 23 rfl rfl)
theorem dX0_catalogue_95 : decode cX0_catalogue 95 = .ok (.iconst 2, 1) := dk_5 (dk_at dksX0_catalogue_4 0 rfl rfl)
theorem dX0_catalogue_96 : decode cX0_catalogue 96 = .ok (.irem, 1) := dk_112 (dk_at dksX0_catalogue_4 1 rfl rfl)
theorem dX0_catalogue_97 : decode cX0_catalogue 97 = .ok (.invokevirtual 227, 3) := dk_182 0 227 (dk_at dksX0_catalogue_4 2 rfl rfl)
theorem dX0_catalogue_100 : decode cX0_catalogue 100 = .ok (.istore 6, 2) := dk_54 6 (dk_at dksX0_catalogue_4 5 rfl rfl)
theorem dX0_catalogue_102 : decode cX0_catalogue 102 = .ok (.iinc 5 1, 3) := dk_132 5 1 (dk_at dksX0_catalogue_4 7 rfl rfl)
theorem dX0_catalogue_105 : decode cX0_catalogue 105 = .ok (.goto (-56), 3) := dk_167 255 200 (dk_at dksX0_catalogue_4 10 rfl rfl)
theorem dX0_catalogue_108 : decode cX0_catalogue 108 = .ok (.iload_n 3, 1) := dk_29 (dk_at dksX0_catalogue_4 13 rfl rfl)
theorem dX0_catalogue_109 : decode cX0_catalogue 109 = .ok (.aload_n 0, 1) := dk_42 (dk_at dksX0_catalogue_4 14 rfl rfl)
theorem dX0_catalogue_110 : decode cX0_catalogue 110 = .ok (.getfield 305, 3) := dk_180 1 49 (dk_at dksX0_catalogue_4 15 rfl rfl)
theorem dX0_catalogue_113 : decode cX0_catalogue 113 = .ok (.if_icmp .lt 5, 3) := dk_161 0 5 (dk_at dksX0_catalogue_4 18 rfl rfl)
theorem dX0_catalogue_116 : decode cX0_catalogue 116 = .ok (.iconst (-1), 1) := dk_2 (dk_at dksX0_catalogue_4 21 rfl rfl)
theorem dX0_catalogue_117 : decode cX0_catalogue 117 = .ok (.ireturn, 1) := dk_172 (dk_at dksX0_catalogue_4 22 rfl rfl)
theorem dX0_catalogue_118 : decode cX0_catalogue 118 = .ok (.iload 4, 2) := dk_21 4 (dk_at dksX0_catalogue_5 0 rfl rfl)
theorem dX0_catalogue_120 : decode cX0_catalogue 120 = .ok (.ifCond .eq 11, 3) := dk_153 0 11 (dk_at dksX0_catalogue_5 2 rfl rfl)
theorem dX0_catalogue_123 : decode cX0_catalogue 123 = .ok (.aload_n 0, 1) := dk_42 (dk_at dksX0_catalogue_5 5 rfl rfl)
theorem dX0_catalogue_124 : decode cX0_catalogue 124 = .ok (.iload_n 3, 1) := dk_29 (dk_at dksX0_catalogue_5 6 rfl rfl)
theorem dX0_catalogue_125 : decode cX0_catalogue 125 = .ok (.invokevirtual 392, 3) := dk_182 1 136 (dk_at dksX0_catalogue_5 7 rfl rfl)
theorem dX0_catalogue_128 : decode cX0_catalogue 128 = .ok (.goto 9, 3) := dk_167 0 9 (dk_at dksX0_catalogue_5 10 rfl rfl)
theorem dX0_catalogue_131 : decode cX0_catalogue 131 = .ok (.aload_n 0, 1) := dk_42 (dk_at dksX0_catalogue_5 13 rfl rfl)
theorem dX0_catalogue_132 : decode cX0_catalogue 132 = .ok (.getfield 61, 3) := dk_180 0 61 (dk_at dksX0_catalogue_5 14 rfl rfl)
theorem dX0_catalogue_135 : decode cX0_catalogue 135 = .ok (.iload_n 3, 1) := dk_29 (dk_at dksX0_catalogue_5 17 rfl rfl)
theorem dX0_catalogue_136 : decode cX0_catalogue 136 = .ok (.iaload, 1) := dk_46 (dk_at dksX0_catalogue_5 18 rfl rfl)
theorem dX0_catalogue_137 : decode cX0_catalogue 137 = .ok (.ireturn, 1) := dk_172 (dk_at dksX0_catalogue_5 19 rfl rfl)
abbrev MX0_catalogue : jjM := (yX0_catalogue, cX0_catalogue, 7, (Option.some Jvm.ClassFile.FieldType.int))
theorem npX0_catalogue : yX0_catalogue.cls ≠ "java/lang/invoke/MethodHandle" ∧ yX0_catalogue.cls ≠ "java/lang/invoke/VarHandle" ∧ (parseMethodDescriptor yX0_catalogue.desc).map (fun d => d.parameters.length) = some 4 := by decide +kernel
abbrev cX0_looks : ByteArray := prog_1_method_75_code
def yX0_looks : MethodName := ⟨RX0, "looks", "(I)I"⟩
def dkwX0_looks_4 : List UInt8 := [28, 172, 132, 2, 1, 167, 255, 159, 2, 172]
abbrev dktX0_looks_4 : List UInt8 := dkwX0_looks_4 ++ []
def dkwX0_looks_3 : List UInt8 := [132, 4, 1, 167, 255, 198, 29, 27, 160, 0, 18, 42, 180, 0, 61, 28, 46, 154, 0, 7, 2, 167, 0, 4]
abbrev dktX0_looks_3 : List UInt8 := dkwX0_looks_3 ++ dktX0_looks_4
def dkwX0_looks_2 : List UInt8 := [42, 180, 0, 61, 28, 46, 160, 0, 13, 21, 4, 28, 162, 0, 7, 4, 167, 0, 4, 3, 96, 62]
abbrev dktX0_looks_2 : List UInt8 := dkwX0_looks_2 ++ dktX0_looks_3
def dkwX0_looks_1 : List UInt8 := [29, 42, 180, 0, 61, 21, 4, 46, 42, 180, 0, 61, 28, 46, 163, 0, 25, 42, 180, 0, 61, 21, 4, 46]
abbrev dktX0_looks_1 : List UInt8 := dkwX0_looks_1 ++ dktX0_looks_2
def dkwX0_looks_0 : List UInt8 := [3, 61, 28, 42, 180, 1, 49, 162, 0, 95, 3, 62, 3, 54, 4, 21, 4, 42, 180, 1, 49, 162, 0, 55]
abbrev dktX0_looks_0 : List UInt8 := dkwX0_looks_0 ++ dktX0_looks_1
theorem dksX0_looks_0 : cX0_looks.data.toList.drop 0 = dktX0_looks_0 := by decide +kernel
theorem dksX0_looks_1 : cX0_looks.data.toList.drop 24 = dktX0_looks_1 := dk_seg dksX0_looks_0 24 rfl rfl
theorem dksX0_looks_2 : cX0_looks.data.toList.drop 48 = dktX0_looks_2 := dk_seg dksX0_looks_1 24 rfl rfl
theorem dksX0_looks_3 : cX0_looks.data.toList.drop 70 = dktX0_looks_3 := dk_seg dksX0_looks_2 22 rfl rfl
theorem dksX0_looks_4 : cX0_looks.data.toList.drop 94 = dktX0_looks_4 := dk_seg dksX0_looks_3 24 rfl rfl
theorem dX0_looks_0 : decode cX0_looks 0 = .ok (.iconst 0, 1) := dk_3 (dk_at dksX0_looks_0 0 rfl rfl)
theorem dX0_looks_1 : decode cX0_looks 1 = .ok (.istore_n 2, 1) := dk_61 (dk_at dksX0_looks_0 1 rfl rfl)
theorem dX0_looks_2 : decode cX0_looks 2 = .ok (.iload_n 2, 1) := dk_28 (dk_at dksX0_looks_0 2 rfl rfl)
theorem dX0_looks_3 : decode cX0_looks 3 = .ok (.aload_n 0, 1) := dk_42 (dk_at dksX0_looks_0 3 rfl rfl)
theorem dX0_looks_4 : decode cX0_looks 4 = .ok (.getfield 305, 3) := dk_180 1 49 (dk_at dksX0_looks_0 4 rfl rfl)
theorem dX0_looks_7 : decode cX0_looks 7 = .ok (.if_icmp .ge 95, 3) := dk_162 0 95 (dk_at dksX0_looks_0 7 rfl rfl)
theorem dX0_looks_10 : decode cX0_looks 10 = .ok (.iconst 0, 1) := dk_3 (dk_at dksX0_looks_0 10 rfl rfl)
theorem dX0_looks_11 : decode cX0_looks 11 = .ok (.istore_n 3, 1) := dk_62 (dk_at dksX0_looks_0 11 rfl rfl)
theorem dX0_looks_12 : decode cX0_looks 12 = .ok (.iconst 0, 1) := dk_3 (dk_at dksX0_looks_0 12 rfl rfl)
theorem dX0_looks_13 : decode cX0_looks 13 = .ok (.istore 4, 2) := dk_54 4 (dk_at dksX0_looks_0 13 rfl rfl)
theorem dX0_looks_15 : decode cX0_looks 15 = .ok (.iload 4, 2) := dk_21 4 (dk_at dksX0_looks_0 15 rfl rfl)
theorem dX0_looks_17 : decode cX0_looks 17 = .ok (.aload_n 0, 1) := dk_42 (dk_at dksX0_looks_0 17 rfl rfl)
theorem dX0_looks_18 : decode cX0_looks 18 = .ok (.getfield 305, 3) := dk_180 1 49 (dk_at dksX0_looks_0 18 rfl rfl)
theorem dX0_looks_21 : decode cX0_looks 21 = .ok (.if_icmp .ge 55, 3) := dk_162 0 55 (dk_at dksX0_looks_0 21 rfl rfl)
theorem dX0_looks_24 : decode cX0_looks 24 = .ok (.iload_n 3, 1) := dk_29 (dk_at dksX0_looks_1 0 rfl rfl)
theorem dX0_looks_25 : decode cX0_looks 25 = .ok (.aload_n 0, 1) := dk_42 (dk_at dksX0_looks_1 1 rfl rfl)
theorem dX0_looks_26 : decode cX0_looks 26 = .ok (.getfield 61, 3) := dk_180 0 61 (dk_at dksX0_looks_1 2 rfl rfl)
theorem dX0_looks_29 : decode cX0_looks 29 = .ok (.iload 4, 2) := dk_21 4 (dk_at dksX0_looks_1 5 rfl rfl)
theorem dX0_looks_31 : decode cX0_looks 31 = .ok (.iaload, 1) := dk_46 (dk_at dksX0_looks_1 7 rfl rfl)
theorem dX0_looks_32 : decode cX0_looks 32 = .ok (.aload_n 0, 1) := dk_42 (dk_at dksX0_looks_1 8 rfl rfl)
theorem dX0_looks_33 : decode cX0_looks 33 = .ok (.getfield 61, 3) := dk_180 0 61 (dk_at dksX0_looks_1 9 rfl rfl)
theorem dX0_looks_36 : decode cX0_looks 36 = .ok (.iload_n 2, 1) := dk_28 (dk_at dksX0_looks_1 12 rfl rfl)
theorem dX0_looks_37 : decode cX0_looks 37 = .ok (.iaload, 1) := dk_46 (dk_at dksX0_looks_1 13 rfl rfl)
theorem dX0_looks_38 : decode cX0_looks 38 = .ok (.if_icmp .gt 25, 3) := dk_163 0 25 (dk_at dksX0_looks_1 14 rfl rfl)
theorem dX0_looks_41 : decode cX0_looks 41 = .ok (.aload_n 0, 1) := dk_42 (dk_at dksX0_looks_1 17 rfl rfl)
theorem dX0_looks_42 : decode cX0_looks 42 = .ok (.getfield 61, 3) := dk_180 0 61 (dk_at dksX0_looks_1 18 rfl rfl)
theorem dX0_looks_45 : decode cX0_looks 45 = .ok (.iload 4, 2) := dk_21 4 (dk_at dksX0_looks_1 21 rfl rfl)
theorem dX0_looks_47 : decode cX0_looks 47 = .ok (.iaload, 1) := dk_46 (dk_at dksX0_looks_1 23 rfl rfl)
theorem dX0_looks_48 : decode cX0_looks 48 = .ok (.aload_n 0, 1) := dk_42 (dk_at dksX0_looks_2 0 rfl rfl)
theorem dX0_looks_49 : decode cX0_looks 49 = .ok (.getfield 61, 3) := dk_180 0 61 (dk_at dksX0_looks_2 1 rfl rfl)
theorem dX0_looks_52 : decode cX0_looks 52 = .ok (.iload_n 2, 1) := dk_28 (dk_at dksX0_looks_2 4 rfl rfl)
theorem dX0_looks_53 : decode cX0_looks 53 = .ok (.iaload, 1) := dk_46 (dk_at dksX0_looks_2 5 rfl rfl)
theorem dX0_looks_54 : decode cX0_looks 54 = .ok (.if_icmp .ne 13, 3) := dk_160 0 13 (dk_at dksX0_looks_2 6 rfl rfl)
theorem dX0_looks_57 : decode cX0_looks 57 = .ok (.iload 4, 2) := dk_21 4 (dk_at dksX0_looks_2 9 rfl rfl)
theorem dX0_looks_59 : decode cX0_looks 59 = .ok (.iload_n 2, 1) := dk_28 (dk_at dksX0_looks_2 11 rfl rfl)
theorem dX0_looks_60 : decode cX0_looks 60 = .ok (.if_icmp .ge 7, 3) := dk_162 0 7 (dk_at dksX0_looks_2 12 rfl rfl)
theorem dX0_looks_63 : decode cX0_looks 63 = .ok (.iconst 1, 1) := dk_4 (dk_at dksX0_looks_2 15 rfl rfl)
theorem dX0_looks_64 : decode cX0_looks 64 = .ok (.goto 4, 3) := dk_167 0 4 (dk_at dksX0_looks_2 16 rfl rfl)
theorem dX0_looks_67 : decode cX0_looks 67 = .ok (.iconst 0, 1) := dk_3 (dk_at dksX0_looks_2 19 rfl rfl)
theorem dX0_looks_68 : decode cX0_looks 68 = .ok (.iadd, 1) := dk_96 (dk_at dksX0_looks_2 20 rfl rfl)
theorem dX0_looks_69 : decode cX0_looks 69 = .ok (.istore_n 3, 1) := dk_62 (dk_at dksX0_looks_2 21 rfl rfl)
theorem dX0_looks_70 : decode cX0_looks 70 = .ok (.iinc 4 1, 3) := dk_132 4 1 (dk_at dksX0_looks_3 0 rfl rfl)
theorem dX0_looks_73 : decode cX0_looks 73 = .ok (.goto (-58), 3) := dk_167 255 198 (dk_at dksX0_looks_3 3 rfl rfl)
theorem dX0_looks_76 : decode cX0_looks 76 = .ok (.iload_n 3, 1) := dk_29 (dk_at dksX0_looks_3 6 rfl rfl)
theorem dX0_looks_77 : decode cX0_looks 77 = .ok (.iload_n 1, 1) := dk_27 (dk_at dksX0_looks_3 7 rfl rfl)
theorem dX0_looks_78 : decode cX0_looks 78 = .ok (.if_icmp .ne 18, 3) := dk_160 0 18 (dk_at dksX0_looks_3 8 rfl rfl)
theorem dX0_looks_81 : decode cX0_looks 81 = .ok (.aload_n 0, 1) := dk_42 (dk_at dksX0_looks_3 11 rfl rfl)
theorem dX0_looks_82 : decode cX0_looks 82 = .ok (.getfield 61, 3) := dk_180 0 61 (dk_at dksX0_looks_3 12 rfl rfl)
theorem dX0_looks_85 : decode cX0_looks 85 = .ok (.iload_n 2, 1) := dk_28 (dk_at dksX0_looks_3 15 rfl rfl)
theorem dX0_looks_86 : decode cX0_looks 86 = .ok (.iaload, 1) := dk_46 (dk_at dksX0_looks_3 16 rfl rfl)
theorem dX0_looks_87 : decode cX0_looks 87 = .ok (.ifCond .ne 7, 3) := dk_154 0 7 (dk_at dksX0_looks_3 17 rfl rfl)
theorem dX0_looks_90 : decode cX0_looks 90 = .ok (.iconst (-1), 1) := dk_2 (dk_at dksX0_looks_3 20 rfl rfl)
theorem dX0_looks_91 : decode cX0_looks 91 = .ok (.goto 4, 3) := dk_167 0 4 (dk_at dksX0_looks_3 21 rfl rfl)
theorem dX0_looks_94 : decode cX0_looks 94 = .ok (.iload_n 2, 1) := dk_28 (dk_at dksX0_looks_4 0 rfl rfl)
theorem dX0_looks_95 : decode cX0_looks 95 = .ok (.ireturn, 1) := dk_172 (dk_at dksX0_looks_4 1 rfl rfl)
theorem dX0_looks_96 : decode cX0_looks 96 = .ok (.iinc 2 1, 3) := dk_132 2 1 (dk_at dksX0_looks_4 2 rfl rfl)
theorem dX0_looks_99 : decode cX0_looks 99 = .ok (.goto (-97), 3) := dk_167 255 159 (dk_at dksX0_looks_4 5 rfl rfl)
theorem dX0_looks_102 : decode cX0_looks 102 = .ok (.iconst (-1), 1) := dk_2 (dk_at dksX0_looks_4 8 rfl rfl)
theorem dX0_looks_103 : decode cX0_looks 103 = .ok (.ireturn, 1) := dk_172 (dk_at dksX0_looks_4 9 rfl rfl)
abbrev MX0_looks : jjM := (yX0_looks, cX0_looks, 5, (Option.some Jvm.ClassFile.FieldType.int))
theorem npX0_looks : yX0_looks.cls ≠ "java/lang/invoke/MethodHandle" ∧ yX0_looks.cls ≠ "java/lang/invoke/VarHandle" ∧ (parseMethodDescriptor yX0_looks.desc).map (fun d => d.parameters.length) = some 1 := by decide +kernel
abbrev cX0_theft : ByteArray := prog_1_method_77_code
def yX0_theft : MethodName := ⟨RX0, "theft", "(I)I"⟩
def dkwX0_theft_0 : List UInt8 := [42, 27, 182, 1, 46, 154, 0, 5, 2, 172, 42, 182, 0, 235, 42, 27, 182, 1, 139, 172]
abbrev dktX0_theft_0 : List UInt8 := dkwX0_theft_0 ++ []
theorem dksX0_theft_0 : cX0_theft.data.toList.drop 0 = dktX0_theft_0 := by decide +kernel
theorem dX0_theft_0 : decode cX0_theft 0 = .ok (.aload_n 0, 1) := dk_42 (dk_at dksX0_theft_0 0 rfl rfl)
theorem dX0_theft_1 : decode cX0_theft 1 = .ok (.iload_n 1, 1) := dk_27 (dk_at dksX0_theft_0 1 rfl rfl)
theorem dX0_theft_2 : decode cX0_theft 2 = .ok (.invokevirtual 302, 3) := dk_182 1 46 (dk_at dksX0_theft_0 2 rfl rfl)
theorem dX0_theft_5 : decode cX0_theft 5 = .ok (.ifCond .ne 5, 3) := dk_154 0 5 (dk_at dksX0_theft_0 5 rfl rfl)
theorem dX0_theft_8 : decode cX0_theft 8 = .ok (.iconst (-1), 1) := dk_2 (dk_at dksX0_theft_0 8 rfl rfl)
theorem dX0_theft_9 : decode cX0_theft 9 = .ok (.ireturn, 1) := dk_172 (dk_at dksX0_theft_0 9 rfl rfl)
theorem dX0_theft_10 : decode cX0_theft 10 = .ok (.aload_n 0, 1) := dk_42 (dk_at dksX0_theft_0 10 rfl rfl)
theorem dX0_theft_11 : decode cX0_theft 11 = .ok (.invokevirtual 235, 3) := dk_182 0 235 (dk_at dksX0_theft_0 11 rfl rfl)
theorem dX0_theft_14 : decode cX0_theft 14 = .ok (.aload_n 0, 1) := dk_42 (dk_at dksX0_theft_0 14 rfl rfl)
theorem dX0_theft_15 : decode cX0_theft 15 = .ok (.iload_n 1, 1) := dk_27 (dk_at dksX0_theft_0 15 rfl rfl)
theorem dX0_theft_16 : decode cX0_theft 16 = .ok (.invokevirtual 395, 3) := dk_182 1 139 (dk_at dksX0_theft_0 16 rfl rfl)
theorem dX0_theft_19 : decode cX0_theft 19 = .ok (.ireturn, 1) := dk_172 (dk_at dksX0_theft_0 19 rfl rfl)
abbrev MX0_theft : jjM := (yX0_theft, cX0_theft, 2, (Option.some Jvm.ClassFile.FieldType.int))
theorem npX0_theft : yX0_theft.cls ≠ "java/lang/invoke/MethodHandle" ∧ yX0_theft.cls ≠ "java/lang/invoke/VarHandle" ∧ (parseMethodDescriptor yX0_theft.desc).map (fun d => d.parameters.length) = some 1 := by decide +kernel
abbrev cX0_theftOf : ByteArray := prog_1_method_76_code
def yX0_theftOf : MethodName := ⟨RX0, "theftOf", "(I)I"⟩
def dkwX0_theftOf_5 : List UInt8 := [167, 255, 202, 29, 172]
abbrev dktX0_theftOf_5 : List UInt8 := dkwX0_theftOf_5 ++ []
def dkwX0_theftOf_4 : List UInt8 := [46, 42, 180, 0, 64, 21, 5, 46, 160, 0, 7, 3, 167, 0, 4, 4, 96, 62, 132, 5, 1, 132, 4, 1]
abbrev dktX0_theftOf_4 : List UInt8 := dkwX0_theftOf_4 ++ dktX0_theftOf_5
def dkwX0_theftOf_3 : List UInt8 := [162, 0, 51, 42, 180, 0, 37, 21, 4, 46, 27, 160, 0, 6, 167, 0, 31, 29, 42, 180, 0, 37, 21, 4]
abbrev dktX0_theftOf_3 : List UInt8 := dkwX0_theftOf_3 ++ dktX0_theftOf_4
def dkwX0_theftOf_2 : List UInt8 := [182, 1, 60, 2, 160, 0, 5, 2, 172, 3, 62, 3, 54, 4, 3, 54, 5, 21, 4, 42, 180, 1, 49]
abbrev dktX0_theftOf_2 : List UInt8 := dkwX0_theftOf_2 ++ dktX0_theftOf_3
def dkwX0_theftOf_1 : List UInt8 := [180, 0, 37, 3, 42, 180, 0, 64, 3, 42, 180, 1, 49, 184, 0, 136, 42, 28, 2, 182, 1, 57, 42]
abbrev dktX0_theftOf_1 : List UInt8 := dkwX0_theftOf_1 ++ dktX0_theftOf_2
def dkwX0_theftOf_0 : List UInt8 := [42, 27, 182, 0, 83, 61, 42, 28, 27, 182, 1, 57, 42, 182, 1, 60, 2, 160, 0, 5, 2, 172, 42]
abbrev dktX0_theftOf_0 : List UInt8 := dkwX0_theftOf_0 ++ dktX0_theftOf_1
theorem dksX0_theftOf_0 : cX0_theftOf.data.toList.drop 0 = dktX0_theftOf_0 := by decide +kernel
theorem dksX0_theftOf_1 : cX0_theftOf.data.toList.drop 23 = dktX0_theftOf_1 := dk_seg dksX0_theftOf_0 23 rfl rfl
theorem dksX0_theftOf_2 : cX0_theftOf.data.toList.drop 46 = dktX0_theftOf_2 := dk_seg dksX0_theftOf_1 23 rfl rfl
theorem dksX0_theftOf_3 : cX0_theftOf.data.toList.drop 69 = dktX0_theftOf_3 := dk_seg dksX0_theftOf_2 23 rfl rfl
theorem dksX0_theftOf_4 : cX0_theftOf.data.toList.drop 93 = dktX0_theftOf_4 := dk_seg dksX0_theftOf_3 24 rfl rfl
theorem dksX0_theftOf_5 : cX0_theftOf.data.toList.drop 117 = dktX0_theftOf_5 := dk_seg dksX0_theftOf_4 24 rfl rfl
theorem dX0_theftOf_0 : decode cX0_theftOf 0 = .ok (.aload_n 0, 1) := dk_42 (dk_at dksX0_theftOf_0 0 rfl rfl)
theorem dX0_theftOf_1 : decode cX0_theftOf 1 = .ok (.iload_n 1, 1) := dk_27 (dk_at dksX0_theftOf_0 1 rfl rfl)
theorem dX0_theftOf_2 : decode cX0_theftOf 2 = .ok (.invokevirtual 83, 3) := dk_182 0 83 (dk_at dksX0_theftOf_0 2 rfl rfl)
theorem dX0_theftOf_5 : decode cX0_theftOf 5 = .ok (.istore_n 2, 1) := dk_61 (dk_at dksX0_theftOf_0 5 rfl rfl)
theorem dX0_theftOf_6 : decode cX0_theftOf 6 = .ok (.aload_n 0, 1) := dk_42 (dk_at dksX0_theftOf_0 6 rfl rfl)
theorem dX0_theftOf_7 : decode cX0_theftOf 7 = .ok (.iload_n 2, 1) := dk_28 (dk_at dksX0_theftOf_0 7 rfl rfl)
theorem dX0_theftOf_8 : decode cX0_theftOf 8 = .ok (.iload_n 1, 1) := dk_27 (dk_at dksX0_theftOf_0 8 rfl rfl)
theorem dX0_theftOf_9 : decode cX0_theftOf 9 = .ok (.invokevirtual 313, 3) := dk_182 1 57 (dk_at dksX0_theftOf_0 9 rfl rfl)
theorem dX0_theftOf_12 : decode cX0_theftOf 12 = .ok (.aload_n 0, 1) := dk_42 (dk_at dksX0_theftOf_0 12 rfl rfl)
theorem dX0_theftOf_13 : decode cX0_theftOf 13 = .ok (.invokevirtual 316, 3) := dk_182 1 60 (dk_at dksX0_theftOf_0 13 rfl rfl)
theorem dX0_theftOf_16 : decode cX0_theftOf 16 = .ok (.iconst (-1), 1) := dk_2 (dk_at dksX0_theftOf_0 16 rfl rfl)
theorem dX0_theftOf_17 : decode cX0_theftOf 17 = .ok (.if_icmp .ne 5, 3) := dk_160 0 5 (dk_at dksX0_theftOf_0 17 rfl rfl)
theorem dX0_theftOf_20 : decode cX0_theftOf 20 = .ok (.iconst (-1), 1) := dk_2 (dk_at dksX0_theftOf_0 20 rfl rfl)
theorem dX0_theftOf_21 : decode cX0_theftOf 21 = .ok (.ireturn, 1) := dk_172 (dk_at dksX0_theftOf_0 21 rfl rfl)
theorem dX0_theftOf_22 : decode cX0_theftOf 22 = .ok (.aload_n 0, 1) := dk_42 (dk_at dksX0_theftOf_0 22 rfl rfl)
theorem dX0_theftOf_23 : decode cX0_theftOf 23 = .ok (.getfield 37, 3) := dk_180 0 37 (dk_at dksX0_theftOf_1 0 rfl rfl)
theorem dX0_theftOf_26 : decode cX0_theftOf 26 = .ok (.iconst 0, 1) := dk_3 (dk_at dksX0_theftOf_1 3 rfl rfl)
theorem dX0_theftOf_27 : decode cX0_theftOf 27 = .ok (.aload_n 0, 1) := dk_42 (dk_at dksX0_theftOf_1 4 rfl rfl)
theorem dX0_theftOf_28 : decode cX0_theftOf 28 = .ok (.getfield 64, 3) := dk_180 0 64 (dk_at dksX0_theftOf_1 5 rfl rfl)
theorem dX0_theftOf_31 : decode cX0_theftOf 31 = .ok (.iconst 0, 1) := dk_3 (dk_at dksX0_theftOf_1 8 rfl rfl)
theorem dX0_theftOf_32 : decode cX0_theftOf 32 = .ok (.aload_n 0, 1) := dk_42 (dk_at dksX0_theftOf_1 9 rfl rfl)
theorem dX0_theftOf_33 : decode cX0_theftOf 33 = .ok (.getfield 305, 3) := dk_180 1 49 (dk_at dksX0_theftOf_1 10 rfl rfl)
theorem dX0_theftOf_36 : decode cX0_theftOf 36 = .ok (.invokestatic 136, 3) := dk_184 0 136 (dk_at dksX0_theftOf_1 13 rfl rfl)
theorem dX0_theftOf_39 : decode cX0_theftOf 39 = .ok (.aload_n 0, 1) := dk_42 (dk_at dksX0_theftOf_1 16 rfl rfl)
theorem dX0_theftOf_40 : decode cX0_theftOf 40 = .ok (.iload_n 2, 1) := dk_28 (dk_at dksX0_theftOf_1 17 rfl rfl)
theorem dX0_theftOf_41 : decode cX0_theftOf 41 = .ok (.iconst (-1), 1) := dk_2 (dk_at dksX0_theftOf_1 18 rfl rfl)
theorem dX0_theftOf_42 : decode cX0_theftOf 42 = .ok (.invokevirtual 313, 3) := dk_182 1 57 (dk_at dksX0_theftOf_1 19 rfl rfl)
theorem dX0_theftOf_45 : decode cX0_theftOf 45 = .ok (.aload_n 0, 1) := dk_42 (dk_at dksX0_theftOf_1 22 rfl rfl)
theorem dX0_theftOf_46 : decode cX0_theftOf 46 = .ok (.invokevirtual 316, 3) := dk_182 1 60 (dk_at dksX0_theftOf_2 0 rfl rfl)
theorem dX0_theftOf_49 : decode cX0_theftOf 49 = .ok (.iconst (-1), 1) := dk_2 (dk_at dksX0_theftOf_2 3 rfl rfl)
theorem dX0_theftOf_50 : decode cX0_theftOf 50 = .ok (.if_icmp .ne 5, 3) := dk_160 0 5 (dk_at dksX0_theftOf_2 4 rfl rfl)
theorem dX0_theftOf_53 : decode cX0_theftOf 53 = .ok (.iconst (-1), 1) := dk_2 (dk_at dksX0_theftOf_2 7 rfl rfl)
theorem dX0_theftOf_54 : decode cX0_theftOf 54 = .ok (.ireturn, 1) := dk_172 (dk_at dksX0_theftOf_2 8 rfl rfl)
theorem dX0_theftOf_55 : decode cX0_theftOf 55 = .ok (.iconst 0, 1) := dk_3 (dk_at dksX0_theftOf_2 9 rfl rfl)
theorem dX0_theftOf_56 : decode cX0_theftOf 56 = .ok (.istore_n 3, 1) := dk_62 (dk_at dksX0_theftOf_2 10 rfl rfl)
theorem dX0_theftOf_57 : decode cX0_theftOf 57 = .ok (.iconst 0, 1) := dk_3 (dk_at dksX0_theftOf_2 11 rfl rfl)
theorem dX0_theftOf_58 : decode cX0_theftOf 58 = .ok (.istore 4, 2) := dk_54 4 (dk_at dksX0_theftOf_2 12 rfl rfl)
theorem dX0_theftOf_60 : decode cX0_theftOf 60 = .ok (.iconst 0, 1) := dk_3 (dk_at dksX0_theftOf_2 14 rfl rfl)
theorem dX0_theftOf_61 : decode cX0_theftOf 61 = .ok (.istore 5, 2) := dk_54 5 (dk_at dksX0_theftOf_2 15 rfl rfl)
theorem dX0_theftOf_63 : decode cX0_theftOf 63 = .ok (.iload 4, 2) := dk_21 4 (dk_at dksX0_theftOf_2 17 rfl rfl)
theorem dX0_theftOf_65 : decode cX0_theftOf 65 = .ok (.aload_n 0, 1) := dk_42 (dk_at dksX0_theftOf_2 19 rfl rfl)
theorem dX0_theftOf_66 : decode cX0_theftOf 66 = .ok (.getfield 305, 3) := dk_180 1 49 (dk_at dksX0_theftOf_2 20 rfl rfl)
theorem dX0_theftOf_69 : decode cX0_theftOf 69 = .ok (.if_icmp .ge 51, 3) := dk_162 0 51 (dk_at dksX0_theftOf_3 0 rfl rfl)
theorem dX0_theftOf_72 : decode cX0_theftOf 72 = .ok (.aload_n 0, 1) := dk_42 (dk_at dksX0_theftOf_3 3 rfl rfl)
theorem dX0_theftOf_73 : decode cX0_theftOf 73 = .ok (.getfield 37, 3) := dk_180 0 37 (dk_at dksX0_theftOf_3 4 rfl rfl)
theorem dX0_theftOf_76 : decode cX0_theftOf 76 = .ok (.iload 4, 2) := dk_21 4 (dk_at dksX0_theftOf_3 7 rfl rfl)
theorem dX0_theftOf_78 : decode cX0_theftOf 78 = .ok (.iaload, 1) := dk_46 (dk_at dksX0_theftOf_3 9 rfl rfl)
theorem dX0_theftOf_79 : decode cX0_theftOf 79 = .ok (.iload_n 1, 1) := dk_27 (dk_at dksX0_theftOf_3 10 rfl rfl)
theorem dX0_theftOf_80 : decode cX0_theftOf 80 = .ok (.if_icmp .ne 6, 3) := dk_160 0 6 (dk_at dksX0_theftOf_3 11 rfl rfl)
theorem dX0_theftOf_83 : decode cX0_theftOf 83 = .ok (.goto 31, 3) := dk_167 0 31 (dk_at dksX0_theftOf_3 14 rfl rfl)
theorem dX0_theftOf_86 : decode cX0_theftOf 86 = .ok (.iload_n 3, 1) := dk_29 (dk_at dksX0_theftOf_3 17 rfl rfl)
theorem dX0_theftOf_87 : decode cX0_theftOf 87 = .ok (.aload_n 0, 1) := dk_42 (dk_at dksX0_theftOf_3 18 rfl rfl)
theorem dX0_theftOf_88 : decode cX0_theftOf 88 = .ok (.getfield 37, 3) := dk_180 0 37 (dk_at dksX0_theftOf_3 19 rfl rfl)
theorem dX0_theftOf_91 : decode cX0_theftOf 91 = .ok (.iload 4, 2) := dk_21 4 (dk_at dksX0_theftOf_3 22 rfl rfl)
theorem dX0_theftOf_93 : decode cX0_theftOf 93 = .ok (.iaload, 1) := dk_46 (dk_at dksX0_theftOf_4 0 rfl rfl)
theorem dX0_theftOf_94 : decode cX0_theftOf 94 = .ok (.aload_n 0, 1) := dk_42 (dk_at dksX0_theftOf_4 1 rfl rfl)
theorem dX0_theftOf_95 : decode cX0_theftOf 95 = .ok (.getfield 64, 3) := dk_180 0 64 (dk_at dksX0_theftOf_4 2 rfl rfl)
theorem dX0_theftOf_98 : decode cX0_theftOf 98 = .ok (.iload 5, 2) := dk_21 5 (dk_at dksX0_theftOf_4 5 rfl rfl)
theorem dX0_theftOf_100 : decode cX0_theftOf 100 = .ok (.iaload, 1) := dk_46 (dk_at dksX0_theftOf_4 7 rfl rfl)
theorem dX0_theftOf_101 : decode cX0_theftOf 101 = .ok (.if_icmp .ne 7, 3) := dk_160 0 7 (dk_at dksX0_theftOf_4 8 rfl rfl)
theorem dX0_theftOf_104 : decode cX0_theftOf 104 = .ok (.iconst 0, 1) := dk_3 (dk_at dksX0_theftOf_4 11 rfl rfl)
theorem dX0_theftOf_105 : decode cX0_theftOf 105 = .ok (.goto 4, 3) := dk_167 0 4 (dk_at dksX0_theftOf_4 12 rfl rfl)
theorem dX0_theftOf_108 : decode cX0_theftOf 108 = .ok (.iconst 1, 1) := dk_4 (dk_at dksX0_theftOf_4 15 rfl rfl)
theorem dX0_theftOf_109 : decode cX0_theftOf 109 = .ok (.iadd, 1) := dk_96 (dk_at dksX0_theftOf_4 16 rfl rfl)
theorem dX0_theftOf_110 : decode cX0_theftOf 110 = .ok (.istore_n 3, 1) := dk_62 (dk_at dksX0_theftOf_4 17 rfl rfl)
theorem dX0_theftOf_111 : decode cX0_theftOf 111 = .ok (.iinc 5 1, 3) := dk_132 5 1 (dk_at dksX0_theftOf_4 18 rfl rfl)
theorem dX0_theftOf_114 : decode cX0_theftOf 114 = .ok (.iinc 4 1, 3) := dk_132 4 1 (dk_at dksX0_theftOf_4 21 rfl rfl)
theorem dX0_theftOf_117 : decode cX0_theftOf 117 = .ok (.goto (-54), 3) := dk_167 255 202 (dk_at dksX0_theftOf_5 0 rfl rfl)
theorem dX0_theftOf_120 : decode cX0_theftOf 120 = .ok (.iload_n 3, 1) := dk_29 (dk_at dksX0_theftOf_5 3 rfl rfl)
theorem dX0_theftOf_121 : decode cX0_theftOf 121 = .ok (.ireturn, 1) := dk_172 (dk_at dksX0_theftOf_5 4 rfl rfl)
abbrev MX0_theftOf : jjM := (yX0_theftOf, cX0_theftOf, 6, (Option.some Jvm.ClassFile.FieldType.int))
theorem npX0_theftOf : yX0_theftOf.cls ≠ "java/lang/invoke/MethodHandle" ∧ yX0_theftOf.cls ≠ "java/lang/invoke/VarHandle" ∧ (parseMethodDescriptor yX0_theftOf.desc).map (fun d => d.parameters.length) = some 1 := by decide +kernel
abbrev cX0_cheapest : ByteArray := prog_1_method_78_code
def yX0_cheapest : MethodName := ⟨RX0, "cheapest", "(I)I"⟩
def dkwX0_cheapest_3 : List UInt8 := [21, 5, 62, 21, 4, 61, 132, 4, 1, 167, 255, 196, 28, 172]
abbrev dktX0_cheapest_3 : List UInt8 := dkwX0_cheapest_3 ++ []
def dkwX0_cheapest_2 : List UInt8 := [182, 1, 139, 167, 0, 4, 2, 54, 5, 21, 5, 2, 159, 0, 18, 21, 5, 29, 161, 0, 6, 167, 0, 9]
abbrev dktX0_cheapest_2 : List UInt8 := dkwX0_cheapest_2 ++ dktX0_cheapest_3
def dkwX0_cheapest_1 : List UInt8 := [180, 0, 12, 180, 0, 71, 3, 46, 162, 0, 52, 42, 21, 4, 182, 0, 83, 27, 160, 0, 12, 42, 21, 4]
abbrev dktX0_cheapest_1 : List UInt8 := dkwX0_cheapest_1 ++ dktX0_cheapest_2
def dkwX0_cheapest_0 : List UInt8 := [27, 184, 0, 87, 154, 0, 5, 2, 172, 42, 182, 0, 235, 2, 61, 16, 10, 62, 3, 54, 4, 21, 4, 42]
abbrev dktX0_cheapest_0 : List UInt8 := dkwX0_cheapest_0 ++ dktX0_cheapest_1
theorem dksX0_cheapest_0 : cX0_cheapest.data.toList.drop 0 = dktX0_cheapest_0 := by decide +kernel
theorem dksX0_cheapest_1 : cX0_cheapest.data.toList.drop 24 = dktX0_cheapest_1 := dk_seg dksX0_cheapest_0 24 rfl rfl
theorem dksX0_cheapest_2 : cX0_cheapest.data.toList.drop 48 = dktX0_cheapest_2 := dk_seg dksX0_cheapest_1 24 rfl rfl
theorem dksX0_cheapest_3 : cX0_cheapest.data.toList.drop 72 = dktX0_cheapest_3 := dk_seg dksX0_cheapest_2 24 rfl rfl
theorem dX0_cheapest_0 : decode cX0_cheapest 0 = .ok (.iload_n 1, 1) := dk_27 (dk_at dksX0_cheapest_0 0 rfl rfl)
theorem dX0_cheapest_1 : decode cX0_cheapest 1 = .ok (.invokestatic 87, 3) := dk_184 0 87 (dk_at dksX0_cheapest_0 1 rfl rfl)
theorem dX0_cheapest_4 : decode cX0_cheapest 4 = .ok (.ifCond .ne 5, 3) := dk_154 0 5 (dk_at dksX0_cheapest_0 4 rfl rfl)
theorem dX0_cheapest_7 : decode cX0_cheapest 7 = .ok (.iconst (-1), 1) := dk_2 (dk_at dksX0_cheapest_0 7 rfl rfl)
theorem dX0_cheapest_8 : decode cX0_cheapest 8 = .ok (.ireturn, 1) := dk_172 (dk_at dksX0_cheapest_0 8 rfl rfl)
theorem dX0_cheapest_9 : decode cX0_cheapest 9 = .ok (.aload_n 0, 1) := dk_42 (dk_at dksX0_cheapest_0 9 rfl rfl)
theorem dX0_cheapest_10 : decode cX0_cheapest 10 = .ok (.invokevirtual 235, 3) := dk_182 0 235 (dk_at dksX0_cheapest_0 10 rfl rfl)
theorem dX0_cheapest_13 : decode cX0_cheapest 13 = .ok (.iconst (-1), 1) := dk_2 (dk_at dksX0_cheapest_0 13 rfl rfl)
theorem dX0_cheapest_14 : decode cX0_cheapest 14 = .ok (.istore_n 2, 1) := dk_61 (dk_at dksX0_cheapest_0 14 rfl rfl)
theorem dX0_cheapest_15 : decode cX0_cheapest 15 = .ok (.bipush 10, 2) := dk_16 10 (dk_at dksX0_cheapest_0 15 rfl rfl)
theorem dX0_cheapest_17 : decode cX0_cheapest 17 = .ok (.istore_n 3, 1) := dk_62 (dk_at dksX0_cheapest_0 17 rfl rfl)
theorem dX0_cheapest_18 : decode cX0_cheapest 18 = .ok (.iconst 0, 1) := dk_3 (dk_at dksX0_cheapest_0 18 rfl rfl)
theorem dX0_cheapest_19 : decode cX0_cheapest 19 = .ok (.istore 4, 2) := dk_54 4 (dk_at dksX0_cheapest_0 19 rfl rfl)
theorem dX0_cheapest_21 : decode cX0_cheapest 21 = .ok (.iload 4, 2) := dk_21 4 (dk_at dksX0_cheapest_0 21 rfl rfl)
theorem dX0_cheapest_23 : decode cX0_cheapest 23 = .ok (.aload_n 0, 1) := dk_42 (dk_at dksX0_cheapest_0 23 rfl rfl)
theorem dX0_cheapest_24 : decode cX0_cheapest 24 = .ok (.getfield 12, 3) := dk_180 0 12 (dk_at dksX0_cheapest_1 0 rfl rfl)
theorem dX0_cheapest_27 : decode cX0_cheapest 27 = .ok (.getfield 71, 3) := dk_180 0 71 (dk_at dksX0_cheapest_1 3 rfl rfl)
theorem dX0_cheapest_30 : decode cX0_cheapest 30 = .ok (.iconst 0, 1) := dk_3 (dk_at dksX0_cheapest_1 6 rfl rfl)
theorem dX0_cheapest_31 : decode cX0_cheapest 31 = .ok (.iaload, 1) := dk_46 (dk_at dksX0_cheapest_1 7 rfl rfl)
theorem dX0_cheapest_32 : decode cX0_cheapest 32 = .ok (.if_icmp .ge 52, 3) := dk_162 0 52 (dk_at dksX0_cheapest_1 8 rfl rfl)
theorem dX0_cheapest_35 : decode cX0_cheapest 35 = .ok (.aload_n 0, 1) := dk_42 (dk_at dksX0_cheapest_1 11 rfl rfl)
theorem dX0_cheapest_36 : decode cX0_cheapest 36 = .ok (.iload 4, 2) := dk_21 4 (dk_at dksX0_cheapest_1 12 rfl rfl)
theorem dX0_cheapest_38 : decode cX0_cheapest 38 = .ok (.invokevirtual 83, 3) := dk_182 0 83 (dk_at dksX0_cheapest_1 14 rfl rfl)
theorem dX0_cheapest_41 : decode cX0_cheapest 41 = .ok (.iload_n 1, 1) := dk_27 (dk_at dksX0_cheapest_1 17 rfl rfl)
theorem dX0_cheapest_42 : decode cX0_cheapest 42 = .ok (.if_icmp .ne 12, 3) := dk_160 0 12 (dk_at dksX0_cheapest_1 18 rfl rfl)
theorem dX0_cheapest_45 : decode cX0_cheapest 45 = .ok (.aload_n 0, 1) := dk_42 (dk_at dksX0_cheapest_1 21 rfl rfl)
theorem dX0_cheapest_46 : decode cX0_cheapest 46 = .ok (.iload 4, 2) := dk_21 4 (dk_at dksX0_cheapest_1 22 rfl rfl)
theorem dX0_cheapest_48 : decode cX0_cheapest 48 = .ok (.invokevirtual 395, 3) := dk_182 1 139 (dk_at dksX0_cheapest_2 0 rfl rfl)
theorem dX0_cheapest_51 : decode cX0_cheapest 51 = .ok (.goto 4, 3) := dk_167 0 4 (dk_at dksX0_cheapest_2 3 rfl rfl)
theorem dX0_cheapest_54 : decode cX0_cheapest 54 = .ok (.iconst (-1), 1) := dk_2 (dk_at dksX0_cheapest_2 6 rfl rfl)
theorem dX0_cheapest_55 : decode cX0_cheapest 55 = .ok (.istore 5, 2) := dk_54 5 (dk_at dksX0_cheapest_2 7 rfl rfl)
theorem dX0_cheapest_57 : decode cX0_cheapest 57 = .ok (.iload 5, 2) := dk_21 5 (dk_at dksX0_cheapest_2 9 rfl rfl)
theorem dX0_cheapest_59 : decode cX0_cheapest 59 = .ok (.iconst (-1), 1) := dk_2 (dk_at dksX0_cheapest_2 11 rfl rfl)
theorem dX0_cheapest_60 : decode cX0_cheapest 60 = .ok (.if_icmp .eq 18, 3) := dk_159 0 18 (dk_at dksX0_cheapest_2 12 rfl rfl)
theorem dX0_cheapest_63 : decode cX0_cheapest 63 = .ok (.iload 5, 2) := dk_21 5 (dk_at dksX0_cheapest_2 15 rfl rfl)
theorem dX0_cheapest_65 : decode cX0_cheapest 65 = .ok (.iload_n 3, 1) := dk_29 (dk_at dksX0_cheapest_2 17 rfl rfl)
theorem dX0_cheapest_66 : decode cX0_cheapest 66 = .ok (.if_icmp .lt 6, 3) := dk_161 0 6 (dk_at dksX0_cheapest_2 18 rfl rfl)
theorem dX0_cheapest_69 : decode cX0_cheapest 69 = .ok (.goto 9, 3) := dk_167 0 9 (dk_at dksX0_cheapest_2 21 rfl rfl)
theorem dX0_cheapest_72 : decode cX0_cheapest 72 = .ok (.iload 5, 2) := dk_21 5 (dk_at dksX0_cheapest_3 0 rfl rfl)
theorem dX0_cheapest_74 : decode cX0_cheapest 74 = .ok (.istore_n 3, 1) := dk_62 (dk_at dksX0_cheapest_3 2 rfl rfl)
theorem dX0_cheapest_75 : decode cX0_cheapest 75 = .ok (.iload 4, 2) := dk_21 4 (dk_at dksX0_cheapest_3 3 rfl rfl)
theorem dX0_cheapest_77 : decode cX0_cheapest 77 = .ok (.istore_n 2, 1) := dk_61 (dk_at dksX0_cheapest_3 5 rfl rfl)
theorem dX0_cheapest_78 : decode cX0_cheapest 78 = .ok (.iinc 4 1, 3) := dk_132 4 1 (dk_at dksX0_cheapest_3 6 rfl rfl)
theorem dX0_cheapest_81 : decode cX0_cheapest 81 = .ok (.goto (-60), 3) := dk_167 255 196 (dk_at dksX0_cheapest_3 9 rfl rfl)
theorem dX0_cheapest_84 : decode cX0_cheapest 84 = .ok (.iload_n 2, 1) := dk_28 (dk_at dksX0_cheapest_3 12 rfl rfl)
theorem dX0_cheapest_85 : decode cX0_cheapest 85 = .ok (.ireturn, 1) := dk_172 (dk_at dksX0_cheapest_3 13 rfl rfl)
abbrev MX0_cheapest : jjM := (yX0_cheapest, cX0_cheapest, 6, (Option.some Jvm.ClassFile.FieldType.int))
theorem npX0_cheapest : yX0_cheapest.cls ≠ "java/lang/invoke/MethodHandle" ∧ yX0_cheapest.cls ≠ "java/lang/invoke/VarHandle" ∧ (parseMethodDescriptor yX0_cheapest.desc).map (fun d => d.parameters.length) = some 1 := by decide +kernel
abbrev cX0_dust : ByteArray := prog_1_method_79_code
def yX0_dust : MethodName := ⟨RX0, "dust", "(IIZZ)I"⟩
def dkwX0_dust_5 : List UInt8 := [180, 0, 12, 180, 0, 71, 8, 92, 46, 4, 96, 79, 42, 180, 0, 12, 180, 0, 71, 8, 46, 172]
abbrev dktX0_dust_5 : List UInt8 := dkwX0_dust_5 ++ []
def dkwX0_dust_4 : List UInt8 := [25, 5, 42, 180, 0, 12, 180, 1, 142, 42, 180, 0, 12, 180, 0, 71, 8, 46, 50, 184, 0, 99, 42]
abbrev dktX0_dust_4 : List UInt8 := dkwX0_dust_4 ++ dktX0_dust_5
def dkwX0_dust_3 : List UInt8 := [153, 0, 7, 4, 167, 0, 4, 3, 79, 89, 6, 21, 4, 153, 0, 7, 4, 167, 0, 4, 3, 79, 58, 5]
abbrev dktX0_dust_3 : List UInt8 := dkwX0_dust_3 ++ dktX0_dust_4
def dkwX0_dust_2 : List UInt8 := [46, 16, 12, 160, 0, 6, 16, 254, 172, 7, 188, 10, 89, 3, 27, 79, 89, 4, 28, 79, 89, 5, 29]
abbrev dktX0_dust_2 : List UInt8 := dkwX0_dust_2 ++ dktX0_dust_3
def dkwX0_dust_1 : List UInt8 := [153, 0, 30, 42, 28, 182, 0, 79, 153, 0, 22, 27, 28, 159, 0, 17, 42, 180, 0, 12, 180, 0, 71, 8]
abbrev dktX0_dust_1 : List UInt8 := dkwX0_dust_1 ++ dktX0_dust_2
def dkwX0_dust_0 : List UInt8 := [27, 2, 160, 0, 15, 42, 180, 0, 12, 180, 0, 71, 8, 3, 79, 3, 172, 42, 27, 182, 0, 79]
abbrev dktX0_dust_0 : List UInt8 := dkwX0_dust_0 ++ dktX0_dust_1
theorem dksX0_dust_0 : cX0_dust.data.toList.drop 0 = dktX0_dust_0 := by decide +kernel
theorem dksX0_dust_1 : cX0_dust.data.toList.drop 22 = dktX0_dust_1 := dk_seg dksX0_dust_0 22 rfl rfl
theorem dksX0_dust_2 : cX0_dust.data.toList.drop 46 = dktX0_dust_2 := dk_seg dksX0_dust_1 24 rfl rfl
theorem dksX0_dust_3 : cX0_dust.data.toList.drop 69 = dktX0_dust_3 := dk_seg dksX0_dust_2 23 rfl rfl
theorem dksX0_dust_4 : cX0_dust.data.toList.drop 93 = dktX0_dust_4 := dk_seg dksX0_dust_3 24 rfl rfl
theorem dksX0_dust_5 : cX0_dust.data.toList.drop 116 = dktX0_dust_5 := dk_seg dksX0_dust_4 23 rfl rfl
theorem dX0_dust_0 : decode cX0_dust 0 = .ok (.iload_n 1, 1) := dk_27 (dk_at dksX0_dust_0 0 rfl rfl)
theorem dX0_dust_1 : decode cX0_dust 1 = .ok (.iconst (-1), 1) := dk_2 (dk_at dksX0_dust_0 1 rfl rfl)
theorem dX0_dust_2 : decode cX0_dust 2 = .ok (.if_icmp .ne 15, 3) := dk_160 0 15 (dk_at dksX0_dust_0 2 rfl rfl)
theorem dX0_dust_5 : decode cX0_dust 5 = .ok (.aload_n 0, 1) := dk_42 (dk_at dksX0_dust_0 5 rfl rfl)
theorem dX0_dust_6 : decode cX0_dust 6 = .ok (.getfield 12, 3) := dk_180 0 12 (dk_at dksX0_dust_0 6 rfl rfl)
theorem dX0_dust_9 : decode cX0_dust 9 = .ok (.getfield 71, 3) := dk_180 0 71 (dk_at dksX0_dust_0 9 rfl rfl)
theorem dX0_dust_12 : decode cX0_dust 12 = .ok (.iconst 5, 1) := dk_8 (dk_at dksX0_dust_0 12 rfl rfl)
theorem dX0_dust_13 : decode cX0_dust 13 = .ok (.iconst 0, 1) := dk_3 (dk_at dksX0_dust_0 13 rfl rfl)
theorem dX0_dust_14 : decode cX0_dust 14 = .ok (.iastore, 1) := dk_79 (dk_at dksX0_dust_0 14 rfl rfl)
theorem dX0_dust_15 : decode cX0_dust 15 = .ok (.iconst 0, 1) := dk_3 (dk_at dksX0_dust_0 15 rfl rfl)
theorem dX0_dust_16 : decode cX0_dust 16 = .ok (.ireturn, 1) := dk_172 (dk_at dksX0_dust_0 16 rfl rfl)
theorem dX0_dust_17 : decode cX0_dust 17 = .ok (.aload_n 0, 1) := dk_42 (dk_at dksX0_dust_0 17 rfl rfl)
theorem dX0_dust_18 : decode cX0_dust 18 = .ok (.iload_n 1, 1) := dk_27 (dk_at dksX0_dust_0 18 rfl rfl)
theorem dX0_dust_19 : decode cX0_dust 19 = .ok (.invokevirtual 79, 3) := dk_182 0 79 (dk_at dksX0_dust_0 19 rfl rfl)
theorem dX0_dust_22 : decode cX0_dust 22 = .ok (.ifCond .eq 30, 3) := dk_153 0 30 (dk_at dksX0_dust_1 0 rfl rfl)
theorem dX0_dust_25 : decode cX0_dust 25 = .ok (.aload_n 0, 1) := dk_42 (dk_at dksX0_dust_1 3 rfl rfl)
theorem dX0_dust_26 : decode cX0_dust 26 = .ok (.iload_n 2, 1) := dk_28 (dk_at dksX0_dust_1 4 rfl rfl)
theorem dX0_dust_27 : decode cX0_dust 27 = .ok (.invokevirtual 79, 3) := dk_182 0 79 (dk_at dksX0_dust_1 5 rfl rfl)
theorem dX0_dust_30 : decode cX0_dust 30 = .ok (.ifCond .eq 22, 3) := dk_153 0 22 (dk_at dksX0_dust_1 8 rfl rfl)
theorem dX0_dust_33 : decode cX0_dust 33 = .ok (.iload_n 1, 1) := dk_27 (dk_at dksX0_dust_1 11 rfl rfl)
theorem dX0_dust_34 : decode cX0_dust 34 = .ok (.iload_n 2, 1) := dk_28 (dk_at dksX0_dust_1 12 rfl rfl)
theorem dX0_dust_35 : decode cX0_dust 35 = .ok (.if_icmp .eq 17, 3) := dk_159 0 17 (dk_at dksX0_dust_1 13 rfl rfl)
theorem dX0_dust_38 : decode cX0_dust 38 = .ok (.aload_n 0, 1) := dk_42 (dk_at dksX0_dust_1 16 rfl rfl)
theorem dX0_dust_39 : decode cX0_dust 39 = .ok (.getfield 12, 3) := dk_180 0 12 (dk_at dksX0_dust_1 17 rfl rfl)
theorem dX0_dust_42 : decode cX0_dust 42 = .ok (.getfield 71, 3) := dk_180 0 71 (dk_at dksX0_dust_1 20 rfl rfl)
theorem dX0_dust_45 : decode cX0_dust 45 = .ok (.iconst 5, 1) := dk_8 (dk_at dksX0_dust_1 23 rfl rfl)
theorem dX0_dust_46 : decode cX0_dust 46 = .ok (.iaload, 1) := dk_46 (dk_at dksX0_dust_2 0 rfl rfl)
theorem dX0_dust_47 : decode cX0_dust 47 = .ok (.bipush 12, 2) := dk_16 12 (dk_at dksX0_dust_2 1 rfl rfl)
theorem dX0_dust_49 : decode cX0_dust 49 = .ok (.if_icmp .ne 6, 3) := dk_160 0 6 (dk_at dksX0_dust_2 3 rfl rfl)
theorem dX0_dust_52 : decode cX0_dust 52 = .ok (.bipush (-2), 2) := dk_16 254 (dk_at dksX0_dust_2 6 rfl rfl)
theorem dX0_dust_54 : decode cX0_dust 54 = .ok (.ireturn, 1) := dk_172 (dk_at dksX0_dust_2 8 rfl rfl)
theorem dX0_dust_55 : decode cX0_dust 55 = .ok (.iconst 4, 1) := dk_7 (dk_at dksX0_dust_2 9 rfl rfl)
theorem dX0_dust_56 : decode cX0_dust 56 = .ok (.newarray .int, 2) := dk_188_10 (dk_at dksX0_dust_2 10 rfl rfl)
theorem dX0_dust_58 : decode cX0_dust 58 = .ok (.dup, 1) := dk_89 (dk_at dksX0_dust_2 12 rfl rfl)
theorem dX0_dust_59 : decode cX0_dust 59 = .ok (.iconst 0, 1) := dk_3 (dk_at dksX0_dust_2 13 rfl rfl)
theorem dX0_dust_60 : decode cX0_dust 60 = .ok (.iload_n 1, 1) := dk_27 (dk_at dksX0_dust_2 14 rfl rfl)
theorem dX0_dust_61 : decode cX0_dust 61 = .ok (.iastore, 1) := dk_79 (dk_at dksX0_dust_2 15 rfl rfl)
theorem dX0_dust_62 : decode cX0_dust 62 = .ok (.dup, 1) := dk_89 (dk_at dksX0_dust_2 16 rfl rfl)
theorem dX0_dust_63 : decode cX0_dust 63 = .ok (.iconst 1, 1) := dk_4 (dk_at dksX0_dust_2 17 rfl rfl)
theorem dX0_dust_64 : decode cX0_dust 64 = .ok (.iload_n 2, 1) := dk_28 (dk_at dksX0_dust_2 18 rfl rfl)
theorem dX0_dust_65 : decode cX0_dust 65 = .ok (.iastore, 1) := dk_79 (dk_at dksX0_dust_2 19 rfl rfl)
theorem dX0_dust_66 : decode cX0_dust 66 = .ok (.dup, 1) := dk_89 (dk_at dksX0_dust_2 20 rfl rfl)
theorem dX0_dust_67 : decode cX0_dust 67 = .ok (.iconst 2, 1) := dk_5 (dk_at dksX0_dust_2 21 rfl rfl)
theorem dX0_dust_68 : decode cX0_dust 68 = .ok (.iload_n 3, 1) := dk_29 (dk_at dksX0_dust_2 22 rfl rfl)
theorem dX0_dust_69 : decode cX0_dust 69 = .ok (.ifCond .eq 7, 3) := dk_153 0 7 (dk_at dksX0_dust_3 0 rfl rfl)
theorem dX0_dust_72 : decode cX0_dust 72 = .ok (.iconst 1, 1) := dk_4 (dk_at dksX0_dust_3 3 rfl rfl)
theorem dX0_dust_73 : decode cX0_dust 73 = .ok (.goto 4, 3) := dk_167 0 4 (dk_at dksX0_dust_3 4 rfl rfl)
theorem dX0_dust_76 : decode cX0_dust 76 = .ok (.iconst 0, 1) := dk_3 (dk_at dksX0_dust_3 7 rfl rfl)
theorem dX0_dust_77 : decode cX0_dust 77 = .ok (.iastore, 1) := dk_79 (dk_at dksX0_dust_3 8 rfl rfl)
theorem dX0_dust_78 : decode cX0_dust 78 = .ok (.dup, 1) := dk_89 (dk_at dksX0_dust_3 9 rfl rfl)
theorem dX0_dust_79 : decode cX0_dust 79 = .ok (.iconst 3, 1) := dk_6 (dk_at dksX0_dust_3 10 rfl rfl)
theorem dX0_dust_80 : decode cX0_dust 80 = .ok (.iload 4, 2) := dk_21 4 (dk_at dksX0_dust_3 11 rfl rfl)
theorem dX0_dust_82 : decode cX0_dust 82 = .ok (.ifCond .eq 7, 3) := dk_153 0 7 (dk_at dksX0_dust_3 13 rfl rfl)
theorem dX0_dust_85 : decode cX0_dust 85 = .ok (.iconst 1, 1) := dk_4 (dk_at dksX0_dust_3 16 rfl rfl)
theorem dX0_dust_86 : decode cX0_dust 86 = .ok (.goto 4, 3) := dk_167 0 4 (dk_at dksX0_dust_3 17 rfl rfl)
theorem dX0_dust_89 : decode cX0_dust 89 = .ok (.iconst 0, 1) := dk_3 (dk_at dksX0_dust_3 20 rfl rfl)
theorem dX0_dust_90 : decode cX0_dust 90 = .ok (.iastore, 1) := dk_79 (dk_at dksX0_dust_3 21 rfl rfl)
theorem dX0_dust_91 : decode cX0_dust 91 = .ok (.astore 5, 2) := dk_58 5 (dk_at dksX0_dust_3 22 rfl rfl)
theorem dX0_dust_93 : decode cX0_dust 93 = .ok (.aload 5, 2) := dk_25 5 (dk_at dksX0_dust_4 0 rfl rfl)
theorem dX0_dust_95 : decode cX0_dust 95 = .ok (.aload_n 0, 1) := dk_42 (dk_at dksX0_dust_4 2 rfl rfl)
theorem dX0_dust_96 : decode cX0_dust 96 = .ok (.getfield 12, 3) := dk_180 0 12 (dk_at dksX0_dust_4 3 rfl rfl)
theorem dX0_dust_99 : decode cX0_dust 99 = .ok (.getfield 398, 3) := dk_180 1 142 (dk_at dksX0_dust_4 6 rfl rfl)
theorem dX0_dust_102 : decode cX0_dust 102 = .ok (.aload_n 0, 1) := dk_42 (dk_at dksX0_dust_4 9 rfl rfl)
theorem dX0_dust_103 : decode cX0_dust 103 = .ok (.getfield 12, 3) := dk_180 0 12 (dk_at dksX0_dust_4 10 rfl rfl)
theorem dX0_dust_106 : decode cX0_dust 106 = .ok (.getfield 71, 3) := dk_180 0 71 (dk_at dksX0_dust_4 13 rfl rfl)
theorem dX0_dust_109 : decode cX0_dust 109 = .ok (.iconst 5, 1) := dk_8 (dk_at dksX0_dust_4 16 rfl rfl)
theorem dX0_dust_110 : decode cX0_dust 110 = .ok (.iaload, 1) := dk_46 (dk_at dksX0_dust_4 17 rfl rfl)
theorem dX0_dust_111 : decode cX0_dust 111 = .ok (.aaload, 1) := dk_50 (dk_at dksX0_dust_4 18 rfl rfl)
theorem dX0_dust_112 : decode cX0_dust 112 = .ok (.invokestatic 99, 3) := dk_184 0 99 (dk_at dksX0_dust_4 19 rfl rfl)
theorem dX0_dust_115 : decode cX0_dust 115 = .ok (.aload_n 0, 1) := dk_42 (dk_at dksX0_dust_4 22 rfl rfl)
theorem dX0_dust_116 : decode cX0_dust 116 = .ok (.getfield 12, 3) := dk_180 0 12 (dk_at dksX0_dust_5 0 rfl rfl)
theorem dX0_dust_119 : decode cX0_dust 119 = .ok (.getfield 71, 3) := dk_180 0 71 (dk_at dksX0_dust_5 3 rfl rfl)
theorem dX0_dust_122 : decode cX0_dust 122 = .ok (.iconst 5, 1) := dk_8 (dk_at dksX0_dust_5 6 rfl rfl)
theorem dX0_dust_123 : decode cX0_dust 123 = .ok (.dup2, 1) := dk_92 (dk_at dksX0_dust_5 7 rfl rfl)
theorem dX0_dust_124 : decode cX0_dust 124 = .ok (.iaload, 1) := dk_46 (dk_at dksX0_dust_5 8 rfl rfl)
theorem dX0_dust_125 : decode cX0_dust 125 = .ok (.iconst 1, 1) := dk_4 (dk_at dksX0_dust_5 9 rfl rfl)
theorem dX0_dust_126 : decode cX0_dust 126 = .ok (.iadd, 1) := dk_96 (dk_at dksX0_dust_5 10 rfl rfl)
theorem dX0_dust_127 : decode cX0_dust 127 = .ok (.iastore, 1) := dk_79 (dk_at dksX0_dust_5 11 rfl rfl)
theorem dX0_dust_128 : decode cX0_dust 128 = .ok (.aload_n 0, 1) := dk_42 (dk_at dksX0_dust_5 12 rfl rfl)
theorem dX0_dust_129 : decode cX0_dust 129 = .ok (.getfield 12, 3) := dk_180 0 12 (dk_at dksX0_dust_5 13 rfl rfl)
theorem dX0_dust_132 : decode cX0_dust 132 = .ok (.getfield 71, 3) := dk_180 0 71 (dk_at dksX0_dust_5 16 rfl rfl)
theorem dX0_dust_135 : decode cX0_dust 135 = .ok (.iconst 5, 1) := dk_8 (dk_at dksX0_dust_5 19 rfl rfl)
theorem dX0_dust_136 : decode cX0_dust 136 = .ok (.iaload, 1) := dk_46 (dk_at dksX0_dust_5 20 rfl rfl)
theorem dX0_dust_137 : decode cX0_dust 137 = .ok (.ireturn, 1) := dk_172 (dk_at dksX0_dust_5 21 rfl rfl)
abbrev MX0_dust : jjM := (yX0_dust, cX0_dust, 6, (Option.some Jvm.ClassFile.FieldType.int))
theorem npX0_dust : yX0_dust.cls ≠ "java/lang/invoke/MethodHandle" ∧ yX0_dust.cls ≠ "java/lang/invoke/VarHandle" ∧ (parseMethodDescriptor yX0_dust.desc).map (fun d => d.parameters.length) = some 4 := by decide +kernel
abbrev cX0_laws : ByteArray := prog_1_method_82_code
def yX0_laws : MethodName := ⟨RX0, "laws", "(I)I"⟩
def dkwX0_laws_0 : List UInt8 := [42, 27, 182, 0, 79, 153, 0, 11, 42, 27, 182, 1, 148, 167, 0, 4, 2, 172]
abbrev dktX0_laws_0 : List UInt8 := dkwX0_laws_0 ++ []
theorem dksX0_laws_0 : cX0_laws.data.toList.drop 0 = dktX0_laws_0 := by decide +kernel
theorem dX0_laws_0 : decode cX0_laws 0 = .ok (.aload_n 0, 1) := dk_42 (dk_at dksX0_laws_0 0 rfl rfl)
theorem dX0_laws_1 : decode cX0_laws 1 = .ok (.iload_n 1, 1) := dk_27 (dk_at dksX0_laws_0 1 rfl rfl)
theorem dX0_laws_2 : decode cX0_laws 2 = .ok (.invokevirtual 79, 3) := dk_182 0 79 (dk_at dksX0_laws_0 2 rfl rfl)
theorem dX0_laws_5 : decode cX0_laws 5 = .ok (.ifCond .eq 11, 3) := dk_153 0 11 (dk_at dksX0_laws_0 5 rfl rfl)
theorem dX0_laws_8 : decode cX0_laws 8 = .ok (.aload_n 0, 1) := dk_42 (dk_at dksX0_laws_0 8 rfl rfl)
theorem dX0_laws_9 : decode cX0_laws 9 = .ok (.iload_n 1, 1) := dk_27 (dk_at dksX0_laws_0 9 rfl rfl)
theorem dX0_laws_10 : decode cX0_laws 10 = .ok (.invokevirtual 404, 3) := dk_182 1 148 (dk_at dksX0_laws_0 10 rfl rfl)
theorem dX0_laws_13 : decode cX0_laws 13 = .ok (.goto 4, 3) := dk_167 0 4 (dk_at dksX0_laws_0 13 rfl rfl)
theorem dX0_laws_16 : decode cX0_laws 16 = .ok (.iconst (-1), 1) := dk_2 (dk_at dksX0_laws_0 16 rfl rfl)
theorem dX0_laws_17 : decode cX0_laws 17 = .ok (.ireturn, 1) := dk_172 (dk_at dksX0_laws_0 17 rfl rfl)
abbrev MX0_laws : jjM := (yX0_laws, cX0_laws, 2, (Option.some Jvm.ClassFile.FieldType.int))
theorem npX0_laws : yX0_laws.cls ≠ "java/lang/invoke/MethodHandle" ∧ yX0_laws.cls ≠ "java/lang/invoke/VarHandle" ∧ (parseMethodDescriptor yX0_laws.desc).map (fun d => d.parameters.length) = some 1 := by decide +kernel
abbrev cX0_lawsOf : ByteArray := prog_1_method_81_code
def yX0_lawsOf : MethodName := ⟨RX0, "lawsOf", "(I)I"⟩
def dkwX0_lawsOf_1 : List UInt8 := [167, 0, 4, 3, 128, 61, 132, 3, 1, 167, 255, 228, 28, 172]
abbrev dktX0_lawsOf_1 : List UInt8 := dkwX0_lawsOf_1 ++ []
def dkwX0_lawsOf_0 : List UInt8 := [3, 61, 3, 62, 29, 16, 6, 162, 0, 28, 28, 42, 29, 27, 182, 1, 145, 153, 0, 9, 4, 29, 120]
abbrev dktX0_lawsOf_0 : List UInt8 := dkwX0_lawsOf_0 ++ dktX0_lawsOf_1
theorem dksX0_lawsOf_0 : cX0_lawsOf.data.toList.drop 0 = dktX0_lawsOf_0 := by decide +kernel
theorem dksX0_lawsOf_1 : cX0_lawsOf.data.toList.drop 23 = dktX0_lawsOf_1 := dk_seg dksX0_lawsOf_0 23 rfl rfl
theorem dX0_lawsOf_0 : decode cX0_lawsOf 0 = .ok (.iconst 0, 1) := dk_3 (dk_at dksX0_lawsOf_0 0 rfl rfl)
theorem dX0_lawsOf_1 : decode cX0_lawsOf 1 = .ok (.istore_n 2, 1) := dk_61 (dk_at dksX0_lawsOf_0 1 rfl rfl)
theorem dX0_lawsOf_2 : decode cX0_lawsOf 2 = .ok (.iconst 0, 1) := dk_3 (dk_at dksX0_lawsOf_0 2 rfl rfl)
theorem dX0_lawsOf_3 : decode cX0_lawsOf 3 = .ok (.istore_n 3, 1) := dk_62 (dk_at dksX0_lawsOf_0 3 rfl rfl)
theorem dX0_lawsOf_4 : decode cX0_lawsOf 4 = .ok (.iload_n 3, 1) := dk_29 (dk_at dksX0_lawsOf_0 4 rfl rfl)
theorem dX0_lawsOf_5 : decode cX0_lawsOf 5 = .ok (.bipush 6, 2) := dk_16 6 (dk_at dksX0_lawsOf_0 5 rfl rfl)
theorem dX0_lawsOf_7 : decode cX0_lawsOf 7 = .ok (.if_icmp .ge 28, 3) := dk_162 0 28 (dk_at dksX0_lawsOf_0 7 rfl rfl)
theorem dX0_lawsOf_10 : decode cX0_lawsOf 10 = .ok (.iload_n 2, 1) := dk_28 (dk_at dksX0_lawsOf_0 10 rfl rfl)
theorem dX0_lawsOf_11 : decode cX0_lawsOf 11 = .ok (.aload_n 0, 1) := dk_42 (dk_at dksX0_lawsOf_0 11 rfl rfl)
theorem dX0_lawsOf_12 : decode cX0_lawsOf 12 = .ok (.iload_n 3, 1) := dk_29 (dk_at dksX0_lawsOf_0 12 rfl rfl)
theorem dX0_lawsOf_13 : decode cX0_lawsOf 13 = .ok (.iload_n 1, 1) := dk_27 (dk_at dksX0_lawsOf_0 13 rfl rfl)
theorem dX0_lawsOf_14 : decode cX0_lawsOf 14 = .ok (.invokevirtual 401, 3) := dk_182 1 145 (dk_at dksX0_lawsOf_0 14 rfl rfl)
theorem dX0_lawsOf_17 : decode cX0_lawsOf 17 = .ok (.ifCond .eq 9, 3) := dk_153 0 9 (dk_at dksX0_lawsOf_0 17 rfl rfl)
theorem dX0_lawsOf_20 : decode cX0_lawsOf 20 = .ok (.iconst 1, 1) := dk_4 (dk_at dksX0_lawsOf_0 20 rfl rfl)
theorem dX0_lawsOf_21 : decode cX0_lawsOf 21 = .ok (.iload_n 3, 1) := dk_29 (dk_at dksX0_lawsOf_0 21 rfl rfl)
theorem dX0_lawsOf_22 : decode cX0_lawsOf 22 = .ok (.ishl, 1) := dk_120 (dk_at dksX0_lawsOf_0 22 rfl rfl)
theorem dX0_lawsOf_23 : decode cX0_lawsOf 23 = .ok (.goto 4, 3) := dk_167 0 4 (dk_at dksX0_lawsOf_1 0 rfl rfl)
theorem dX0_lawsOf_26 : decode cX0_lawsOf 26 = .ok (.iconst 0, 1) := dk_3 (dk_at dksX0_lawsOf_1 3 rfl rfl)
theorem dX0_lawsOf_27 : decode cX0_lawsOf 27 = .ok (.ior, 1) := dk_128 (dk_at dksX0_lawsOf_1 4 rfl rfl)
theorem dX0_lawsOf_28 : decode cX0_lawsOf 28 = .ok (.istore_n 2, 1) := dk_61 (dk_at dksX0_lawsOf_1 5 rfl rfl)
theorem dX0_lawsOf_29 : decode cX0_lawsOf 29 = .ok (.iinc 3 1, 3) := dk_132 3 1 (dk_at dksX0_lawsOf_1 6 rfl rfl)
theorem dX0_lawsOf_32 : decode cX0_lawsOf 32 = .ok (.goto (-28), 3) := dk_167 255 228 (dk_at dksX0_lawsOf_1 9 rfl rfl)
theorem dX0_lawsOf_35 : decode cX0_lawsOf 35 = .ok (.iload_n 2, 1) := dk_28 (dk_at dksX0_lawsOf_1 12 rfl rfl)
theorem dX0_lawsOf_36 : decode cX0_lawsOf 36 = .ok (.ireturn, 1) := dk_172 (dk_at dksX0_lawsOf_1 13 rfl rfl)
abbrev MX0_lawsOf : jjM := (yX0_lawsOf, cX0_lawsOf, 4, (Option.some Jvm.ClassFile.FieldType.int))
theorem npX0_lawsOf : yX0_lawsOf.cls ≠ "java/lang/invoke/MethodHandle" ∧ yX0_lawsOf.cls ≠ "java/lang/invoke/VarHandle" ∧ (parseMethodDescriptor yX0_lawsOf.desc).map (fun d => d.parameters.length) = some 1 := by decide +kernel
abbrev cX0_fitsDust : ByteArray := prog_1_method_80_code
def yX0_fitsDust : MethodName := ⟨RX0, "fitsDust", "(II)Z"⟩
def dkwX0_fitsDust_3 : List UInt8 := [159, 0, 5, 3, 172, 132, 3, 1, 167, 255, 180, 4, 172]
abbrev dktX0_fitsDust_3 : List UInt8 := dkwX0_fitsDust_3 ++ []
def dkwX0_fitsDust_2 : List UInt8 := [160, 0, 7, 4, 167, 0, 4, 3, 182, 0, 160, 25, 4, 6, 46, 4, 160, 0, 7, 4, 167, 0, 4, 3]
abbrev dktX0_fitsDust_2 : List UInt8 := dkwX0_fitsDust_2 ++ dktX0_fitsDust_3
def dkwX0_fitsDust_1 : List UInt8 := [58, 4, 25, 4, 3, 46, 28, 160, 0, 44, 42, 27, 28, 25, 4, 4, 46, 25, 4, 5, 46, 4]
abbrev dktX0_fitsDust_1 : List UInt8 := dkwX0_fitsDust_1 ++ dktX0_fitsDust_2
def dkwX0_fitsDust_0 : List UInt8 := [3, 62, 29, 42, 180, 0, 12, 180, 0, 71, 8, 46, 162, 0, 69, 42, 180, 0, 12, 180, 1, 142, 29, 50]
abbrev dktX0_fitsDust_0 : List UInt8 := dkwX0_fitsDust_0 ++ dktX0_fitsDust_1
theorem dksX0_fitsDust_0 : cX0_fitsDust.data.toList.drop 0 = dktX0_fitsDust_0 := by decide +kernel
theorem dksX0_fitsDust_1 : cX0_fitsDust.data.toList.drop 24 = dktX0_fitsDust_1 := dk_seg dksX0_fitsDust_0 24 rfl rfl
theorem dksX0_fitsDust_2 : cX0_fitsDust.data.toList.drop 46 = dktX0_fitsDust_2 := dk_seg dksX0_fitsDust_1 22 rfl rfl
theorem dksX0_fitsDust_3 : cX0_fitsDust.data.toList.drop 70 = dktX0_fitsDust_3 := dk_seg dksX0_fitsDust_2 24 rfl rfl
theorem dX0_fitsDust_0 : decode cX0_fitsDust 0 = .ok (.iconst 0, 1) := dk_3 (dk_at dksX0_fitsDust_0 0 rfl rfl)
theorem dX0_fitsDust_1 : decode cX0_fitsDust 1 = .ok (.istore_n 3, 1) := dk_62 (dk_at dksX0_fitsDust_0 1 rfl rfl)
theorem dX0_fitsDust_2 : decode cX0_fitsDust 2 = .ok (.iload_n 3, 1) := dk_29 (dk_at dksX0_fitsDust_0 2 rfl rfl)
theorem dX0_fitsDust_3 : decode cX0_fitsDust 3 = .ok (.aload_n 0, 1) := dk_42 (dk_at dksX0_fitsDust_0 3 rfl rfl)
theorem dX0_fitsDust_4 : decode cX0_fitsDust 4 = .ok (.getfield 12, 3) := dk_180 0 12 (dk_at dksX0_fitsDust_0 4 rfl rfl)
theorem dX0_fitsDust_7 : decode cX0_fitsDust 7 = .ok (.getfield 71, 3) := dk_180 0 71 (dk_at dksX0_fitsDust_0 7 rfl rfl)
theorem dX0_fitsDust_10 : decode cX0_fitsDust 10 = .ok (.iconst 5, 1) := dk_8 (dk_at dksX0_fitsDust_0 10 rfl rfl)
theorem dX0_fitsDust_11 : decode cX0_fitsDust 11 = .ok (.iaload, 1) := dk_46 (dk_at dksX0_fitsDust_0 11 rfl rfl)
theorem dX0_fitsDust_12 : decode cX0_fitsDust 12 = .ok (.if_icmp .ge 69, 3) := dk_162 0 69 (dk_at dksX0_fitsDust_0 12 rfl rfl)
theorem dX0_fitsDust_15 : decode cX0_fitsDust 15 = .ok (.aload_n 0, 1) := dk_42 (dk_at dksX0_fitsDust_0 15 rfl rfl)
theorem dX0_fitsDust_16 : decode cX0_fitsDust 16 = .ok (.getfield 12, 3) := dk_180 0 12 (dk_at dksX0_fitsDust_0 16 rfl rfl)
theorem dX0_fitsDust_19 : decode cX0_fitsDust 19 = .ok (.getfield 398, 3) := dk_180 1 142 (dk_at dksX0_fitsDust_0 19 rfl rfl)
theorem dX0_fitsDust_22 : decode cX0_fitsDust 22 = .ok (.iload_n 3, 1) := dk_29 (dk_at dksX0_fitsDust_0 22 rfl rfl)
theorem dX0_fitsDust_23 : decode cX0_fitsDust 23 = .ok (.aaload, 1) := dk_50 (dk_at dksX0_fitsDust_0 23 rfl rfl)
theorem dX0_fitsDust_24 : decode cX0_fitsDust 24 = .ok (.astore 4, 2) := dk_58 4 (dk_at dksX0_fitsDust_1 0 rfl rfl)
theorem dX0_fitsDust_26 : decode cX0_fitsDust 26 = .ok (.aload 4, 2) := dk_25 4 (dk_at dksX0_fitsDust_1 2 rfl rfl)
theorem dX0_fitsDust_28 : decode cX0_fitsDust 28 = .ok (.iconst 0, 1) := dk_3 (dk_at dksX0_fitsDust_1 4 rfl rfl)
theorem dX0_fitsDust_29 : decode cX0_fitsDust 29 = .ok (.iaload, 1) := dk_46 (dk_at dksX0_fitsDust_1 5 rfl rfl)
theorem dX0_fitsDust_30 : decode cX0_fitsDust 30 = .ok (.iload_n 2, 1) := dk_28 (dk_at dksX0_fitsDust_1 6 rfl rfl)
theorem dX0_fitsDust_31 : decode cX0_fitsDust 31 = .ok (.if_icmp .ne 44, 3) := dk_160 0 44 (dk_at dksX0_fitsDust_1 7 rfl rfl)
theorem dX0_fitsDust_34 : decode cX0_fitsDust 34 = .ok (.aload_n 0, 1) := dk_42 (dk_at dksX0_fitsDust_1 10 rfl rfl)
theorem dX0_fitsDust_35 : decode cX0_fitsDust 35 = .ok (.iload_n 1, 1) := dk_27 (dk_at dksX0_fitsDust_1 11 rfl rfl)
theorem dX0_fitsDust_36 : decode cX0_fitsDust 36 = .ok (.iload_n 2, 1) := dk_28 (dk_at dksX0_fitsDust_1 12 rfl rfl)
theorem dX0_fitsDust_37 : decode cX0_fitsDust 37 = .ok (.aload 4, 2) := dk_25 4 (dk_at dksX0_fitsDust_1 13 rfl rfl)
theorem dX0_fitsDust_39 : decode cX0_fitsDust 39 = .ok (.iconst 1, 1) := dk_4 (dk_at dksX0_fitsDust_1 15 rfl rfl)
theorem dX0_fitsDust_40 : decode cX0_fitsDust 40 = .ok (.iaload, 1) := dk_46 (dk_at dksX0_fitsDust_1 16 rfl rfl)
theorem dX0_fitsDust_41 : decode cX0_fitsDust 41 = .ok (.aload 4, 2) := dk_25 4 (dk_at dksX0_fitsDust_1 17 rfl rfl)
theorem dX0_fitsDust_43 : decode cX0_fitsDust 43 = .ok (.iconst 2, 1) := dk_5 (dk_at dksX0_fitsDust_1 19 rfl rfl)
theorem dX0_fitsDust_44 : decode cX0_fitsDust 44 = .ok (.iaload, 1) := dk_46 (dk_at dksX0_fitsDust_1 20 rfl rfl)
theorem dX0_fitsDust_45 : decode cX0_fitsDust 45 = .ok (.iconst 1, 1) := dk_4 (dk_at dksX0_fitsDust_1 21 rfl rfl)
theorem dX0_fitsDust_46 : decode cX0_fitsDust 46 = .ok (.if_icmp .ne 7, 3) := dk_160 0 7 (dk_at dksX0_fitsDust_2 0 rfl rfl)
theorem dX0_fitsDust_49 : decode cX0_fitsDust 49 = .ok (.iconst 1, 1) := dk_4 (dk_at dksX0_fitsDust_2 3 rfl rfl)
theorem dX0_fitsDust_50 : decode cX0_fitsDust 50 = .ok (.goto 4, 3) := dk_167 0 4 (dk_at dksX0_fitsDust_2 4 rfl rfl)
theorem dX0_fitsDust_53 : decode cX0_fitsDust 53 = .ok (.iconst 0, 1) := dk_3 (dk_at dksX0_fitsDust_2 7 rfl rfl)
theorem dX0_fitsDust_54 : decode cX0_fitsDust 54 = .ok (.invokevirtual 160, 3) := dk_182 0 160 (dk_at dksX0_fitsDust_2 8 rfl rfl)
theorem dX0_fitsDust_57 : decode cX0_fitsDust 57 = .ok (.aload 4, 2) := dk_25 4 (dk_at dksX0_fitsDust_2 11 rfl rfl)
theorem dX0_fitsDust_59 : decode cX0_fitsDust 59 = .ok (.iconst 3, 1) := dk_6 (dk_at dksX0_fitsDust_2 13 rfl rfl)
theorem dX0_fitsDust_60 : decode cX0_fitsDust 60 = .ok (.iaload, 1) := dk_46 (dk_at dksX0_fitsDust_2 14 rfl rfl)
theorem dX0_fitsDust_61 : decode cX0_fitsDust 61 = .ok (.iconst 1, 1) := dk_4 (dk_at dksX0_fitsDust_2 15 rfl rfl)
theorem dX0_fitsDust_62 : decode cX0_fitsDust 62 = .ok (.if_icmp .ne 7, 3) := dk_160 0 7 (dk_at dksX0_fitsDust_2 16 rfl rfl)
theorem dX0_fitsDust_65 : decode cX0_fitsDust 65 = .ok (.iconst 1, 1) := dk_4 (dk_at dksX0_fitsDust_2 19 rfl rfl)
theorem dX0_fitsDust_66 : decode cX0_fitsDust 66 = .ok (.goto 4, 3) := dk_167 0 4 (dk_at dksX0_fitsDust_2 20 rfl rfl)
theorem dX0_fitsDust_69 : decode cX0_fitsDust 69 = .ok (.iconst 0, 1) := dk_3 (dk_at dksX0_fitsDust_2 23 rfl rfl)
theorem dX0_fitsDust_70 : decode cX0_fitsDust 70 = .ok (.if_icmp .eq 5, 3) := dk_159 0 5 (dk_at dksX0_fitsDust_3 0 rfl rfl)
theorem dX0_fitsDust_73 : decode cX0_fitsDust 73 = .ok (.iconst 0, 1) := dk_3 (dk_at dksX0_fitsDust_3 3 rfl rfl)
theorem dX0_fitsDust_74 : decode cX0_fitsDust 74 = .ok (.ireturn, 1) := dk_172 (dk_at dksX0_fitsDust_3 4 rfl rfl)
theorem dX0_fitsDust_75 : decode cX0_fitsDust 75 = .ok (.iinc 3 1, 3) := dk_132 3 1 (dk_at dksX0_fitsDust_3 5 rfl rfl)
theorem dX0_fitsDust_78 : decode cX0_fitsDust 78 = .ok (.goto (-76), 3) := dk_167 255 180 (dk_at dksX0_fitsDust_3 8 rfl rfl)
theorem dX0_fitsDust_81 : decode cX0_fitsDust 81 = .ok (.iconst 1, 1) := dk_4 (dk_at dksX0_fitsDust_3 11 rfl rfl)
theorem dX0_fitsDust_82 : decode cX0_fitsDust 82 = .ok (.ireturn, 1) := dk_172 (dk_at dksX0_fitsDust_3 12 rfl rfl)
abbrev MX0_fitsDust : jjM := (yX0_fitsDust, cX0_fitsDust, 5, (Option.some Jvm.ClassFile.FieldType.boolean))
theorem npX0_fitsDust : yX0_fitsDust.cls ≠ "java/lang/invoke/MethodHandle" ∧ yX0_fitsDust.cls ≠ "java/lang/invoke/VarHandle" ∧ (parseMethodDescriptor yX0_fitsDust.desc).map (fun d => d.parameters.length) = some 2 := by decide +kernel
abbrev cX0_tells : ByteArray := prog_1_method_84_code
def yX0_tells : MethodName := ⟨RX0, "tells", "(I)I"⟩
def dkwX0_tells_4 : List UInt8 := [167, 255, 184, 29, 172]
abbrev dktX0_tells_4 : List UInt8 := dkwX0_tells_4 ++ []
def dkwX0_tells_3 : List UInt8 := [54, 6, 21, 6, 21, 4, 161, 0, 6, 167, 0, 10, 21, 6, 54, 4, 21, 5, 62, 132, 5, 1]
abbrev dktX0_tells_3 : List UInt8 := dkwX0_tells_3 ++ dktX0_tells_4
def dkwX0_tells_2 : List UInt8 := [42, 28, 27, 21, 5, 5, 108, 21, 5, 5, 112, 4, 160, 0, 7, 4, 167, 0, 4, 3, 182, 1, 156]
abbrev dktX0_tells_2 : List UInt8 := dkwX0_tells_2 ++ dktX0_tells_3
def dkwX0_tells_1 : List UInt8 := [42, 180, 0, 12, 180, 0, 71, 3, 46, 104, 162, 0, 62, 21, 5, 5, 108, 27, 160, 0, 6, 167, 0, 45]
abbrev dktX0_tells_1 : List UInt8 := dkwX0_tells_1 ++ dktX0_tells_2
def dkwX0_tells_0 : List UInt8 := [42, 27, 182, 1, 153, 61, 28, 157, 0, 5, 2, 172, 2, 62, 16, 7, 54, 4, 3, 54, 5, 21, 5, 5]
abbrev dktX0_tells_0 : List UInt8 := dkwX0_tells_0 ++ dktX0_tells_1
theorem dksX0_tells_0 : cX0_tells.data.toList.drop 0 = dktX0_tells_0 := by decide +kernel
theorem dksX0_tells_1 : cX0_tells.data.toList.drop 24 = dktX0_tells_1 := dk_seg dksX0_tells_0 24 rfl rfl
theorem dksX0_tells_2 : cX0_tells.data.toList.drop 48 = dktX0_tells_2 := dk_seg dksX0_tells_1 24 rfl rfl
theorem dksX0_tells_3 : cX0_tells.data.toList.drop 71 = dktX0_tells_3 := dk_seg dksX0_tells_2 23 rfl rfl
theorem dksX0_tells_4 : cX0_tells.data.toList.drop 93 = dktX0_tells_4 := dk_seg dksX0_tells_3 22 rfl rfl
theorem dX0_tells_0 : decode cX0_tells 0 = .ok (.aload_n 0, 1) := dk_42 (dk_at dksX0_tells_0 0 rfl rfl)
theorem dX0_tells_1 : decode cX0_tells 1 = .ok (.iload_n 1, 1) := dk_27 (dk_at dksX0_tells_0 1 rfl rfl)
theorem dX0_tells_2 : decode cX0_tells 2 = .ok (.invokevirtual 409, 3) := dk_182 1 153 (dk_at dksX0_tells_0 2 rfl rfl)
theorem dX0_tells_5 : decode cX0_tells 5 = .ok (.istore_n 2, 1) := dk_61 (dk_at dksX0_tells_0 5 rfl rfl)
theorem dX0_tells_6 : decode cX0_tells 6 = .ok (.iload_n 2, 1) := dk_28 (dk_at dksX0_tells_0 6 rfl rfl)
theorem dX0_tells_7 : decode cX0_tells 7 = .ok (.ifCond .gt 5, 3) := dk_157 0 5 (dk_at dksX0_tells_0 7 rfl rfl)
theorem dX0_tells_10 : decode cX0_tells 10 = .ok (.iconst (-1), 1) := dk_2 (dk_at dksX0_tells_0 10 rfl rfl)
theorem dX0_tells_11 : decode cX0_tells 11 = .ok (.ireturn, 1) := dk_172 (dk_at dksX0_tells_0 11 rfl rfl)
theorem dX0_tells_12 : decode cX0_tells 12 = .ok (.iconst (-1), 1) := dk_2 (dk_at dksX0_tells_0 12 rfl rfl)
theorem dX0_tells_13 : decode cX0_tells 13 = .ok (.istore_n 3, 1) := dk_62 (dk_at dksX0_tells_0 13 rfl rfl)
theorem dX0_tells_14 : decode cX0_tells 14 = .ok (.bipush 7, 2) := dk_16 7 (dk_at dksX0_tells_0 14 rfl rfl)
theorem dX0_tells_16 : decode cX0_tells 16 = .ok (.istore 4, 2) := dk_54 4 (dk_at dksX0_tells_0 16 rfl rfl)
theorem dX0_tells_18 : decode cX0_tells 18 = .ok (.iconst 0, 1) := dk_3 (dk_at dksX0_tells_0 18 rfl rfl)
theorem dX0_tells_19 : decode cX0_tells 19 = .ok (.istore 5, 2) := dk_54 5 (dk_at dksX0_tells_0 19 rfl rfl)
theorem dX0_tells_21 : decode cX0_tells 21 = .ok (.iload 5, 2) := dk_21 5 (dk_at dksX0_tells_0 21 rfl rfl)
theorem dX0_tells_23 : decode cX0_tells 23 = .ok (.iconst 2, 1) := dk_5 (dk_at dksX0_tells_0 23 rfl rfl)
theorem dX0_tells_24 : decode cX0_tells 24 = .ok (.aload_n 0, 1) := dk_42 (dk_at dksX0_tells_1 0 rfl rfl)
theorem dX0_tells_25 : decode cX0_tells 25 = .ok (.getfield 12, 3) := dk_180 0 12 (dk_at dksX0_tells_1 1 rfl rfl)
theorem dX0_tells_28 : decode cX0_tells 28 = .ok (.getfield 71, 3) := dk_180 0 71 (dk_at dksX0_tells_1 4 rfl rfl)
theorem dX0_tells_31 : decode cX0_tells 31 = .ok (.iconst 0, 1) := dk_3 (dk_at dksX0_tells_1 7 rfl rfl)
theorem dX0_tells_32 : decode cX0_tells 32 = .ok (.iaload, 1) := dk_46 (dk_at dksX0_tells_1 8 rfl rfl)
theorem dX0_tells_33 : decode cX0_tells 33 = .ok (.imul, 1) := dk_104 (dk_at dksX0_tells_1 9 rfl rfl)
theorem dX0_tells_34 : decode cX0_tells 34 = .ok (.if_icmp .ge 62, 3) := dk_162 0 62 (dk_at dksX0_tells_1 10 rfl rfl)
theorem dX0_tells_37 : decode cX0_tells 37 = .ok (.iload 5, 2) := dk_21 5 (dk_at dksX0_tells_1 13 rfl rfl)
theorem dX0_tells_39 : decode cX0_tells 39 = .ok (.iconst 2, 1) := dk_5 (dk_at dksX0_tells_1 15 rfl rfl)
theorem dX0_tells_40 : decode cX0_tells 40 = .ok (.idiv, 1) := dk_108 (dk_at dksX0_tells_1 16 rfl rfl)
theorem dX0_tells_41 : decode cX0_tells 41 = .ok (.iload_n 1, 1) := dk_27 (dk_at dksX0_tells_1 17 rfl rfl)
theorem dX0_tells_42 : decode cX0_tells 42 = .ok (.if_icmp .ne 6, 3) := dk_160 0 6 (dk_at dksX0_tells_1 18 rfl rfl)
theorem dX0_tells_45 : decode cX0_tells 45 = .ok (.goto 45, 3) := dk_167 0 45 (dk_at dksX0_tells_1 21 rfl rfl)
theorem dX0_tells_48 : decode cX0_tells 48 = .ok (.aload_n 0, 1) := dk_42 (dk_at dksX0_tells_2 0 rfl rfl)
theorem dX0_tells_49 : decode cX0_tells 49 = .ok (.iload_n 2, 1) := dk_28 (dk_at dksX0_tells_2 1 rfl rfl)
theorem dX0_tells_50 : decode cX0_tells 50 = .ok (.iload_n 1, 1) := dk_27 (dk_at dksX0_tells_2 2 rfl rfl)
theorem dX0_tells_51 : decode cX0_tells 51 = .ok (.iload 5, 2) := dk_21 5 (dk_at dksX0_tells_2 3 rfl rfl)
theorem dX0_tells_53 : decode cX0_tells 53 = .ok (.iconst 2, 1) := dk_5 (dk_at dksX0_tells_2 5 rfl rfl)
theorem dX0_tells_54 : decode cX0_tells 54 = .ok (.idiv, 1) := dk_108 (dk_at dksX0_tells_2 6 rfl rfl)
theorem dX0_tells_55 : decode cX0_tells 55 = .ok (.iload 5, 2) := dk_21 5 (dk_at dksX0_tells_2 7 rfl rfl)
theorem dX0_tells_57 : decode cX0_tells 57 = .ok (.iconst 2, 1) := dk_5 (dk_at dksX0_tells_2 9 rfl rfl)
theorem dX0_tells_58 : decode cX0_tells 58 = .ok (.irem, 1) := dk_112 (dk_at dksX0_tells_2 10 rfl rfl)
theorem dX0_tells_59 : decode cX0_tells 59 = .ok (.iconst 1, 1) := dk_4 (dk_at dksX0_tells_2 11 rfl rfl)
theorem dX0_tells_60 : decode cX0_tells 60 = .ok (.if_icmp .ne 7, 3) := dk_160 0 7 (dk_at dksX0_tells_2 12 rfl rfl)
theorem dX0_tells_63 : decode cX0_tells 63 = .ok (.iconst 1, 1) := dk_4 (dk_at dksX0_tells_2 15 rfl rfl)
theorem dX0_tells_64 : decode cX0_tells 64 = .ok (.goto 4, 3) := dk_167 0 4 (dk_at dksX0_tells_2 16 rfl rfl)
theorem dX0_tells_67 : decode cX0_tells 67 = .ok (.iconst 0, 1) := dk_3 (dk_at dksX0_tells_2 19 rfl rfl)
theorem dX0_tells_68 : decode cX0_tells 68 = .ok (.invokevirtual 412, 3) := dk_182 1 156 (dk_at dksX0_tells_2 20 rfl rfl)
theorem dX0_tells_71 : decode cX0_tells 71 = .ok (.istore 6, 2) := dk_54 6 (dk_at dksX0_tells_3 0 rfl rfl)
theorem dX0_tells_73 : decode cX0_tells 73 = .ok (.iload 6, 2) := dk_21 6 (dk_at dksX0_tells_3 2 rfl rfl)
theorem dX0_tells_75 : decode cX0_tells 75 = .ok (.iload 4, 2) := dk_21 4 (dk_at dksX0_tells_3 4 rfl rfl)
theorem dX0_tells_77 : decode cX0_tells 77 = .ok (.if_icmp .lt 6, 3) := dk_161 0 6 (dk_at dksX0_tells_3 6 rfl rfl)
theorem dX0_tells_80 : decode cX0_tells 80 = .ok (.goto 10, 3) := dk_167 0 10 (dk_at dksX0_tells_3 9 rfl rfl)
theorem dX0_tells_83 : decode cX0_tells 83 = .ok (.iload 6, 2) := dk_21 6 (dk_at dksX0_tells_3 12 rfl rfl)
theorem dX0_tells_85 : decode cX0_tells 85 = .ok (.istore 4, 2) := dk_54 4 (dk_at dksX0_tells_3 14 rfl rfl)
theorem dX0_tells_87 : decode cX0_tells 87 = .ok (.iload 5, 2) := dk_21 5 (dk_at dksX0_tells_3 16 rfl rfl)
theorem dX0_tells_89 : decode cX0_tells 89 = .ok (.istore_n 3, 1) := dk_62 (dk_at dksX0_tells_3 18 rfl rfl)
theorem dX0_tells_90 : decode cX0_tells 90 = .ok (.iinc 5 1, 3) := dk_132 5 1 (dk_at dksX0_tells_3 19 rfl rfl)
theorem dX0_tells_93 : decode cX0_tells 93 = .ok (.goto (-72), 3) := dk_167 255 184 (dk_at dksX0_tells_4 0 rfl rfl)
theorem dX0_tells_96 : decode cX0_tells 96 = .ok (.iload_n 3, 1) := dk_29 (dk_at dksX0_tells_4 3 rfl rfl)
theorem dX0_tells_97 : decode cX0_tells 97 = .ok (.ireturn, 1) := dk_172 (dk_at dksX0_tells_4 4 rfl rfl)
abbrev MX0_tells : jjM := (yX0_tells, cX0_tells, 7, (Option.some Jvm.ClassFile.FieldType.int))
theorem npX0_tells : yX0_tells.cls ≠ "java/lang/invoke/MethodHandle" ∧ yX0_tells.cls ≠ "java/lang/invoke/VarHandle" ∧ (parseMethodDescriptor yX0_tells.desc).map (fun d => d.parameters.length) = some 1 := by decide +kernel
abbrev cX0_mostAlike : ByteArray := prog_1_method_83_code
def yX0_mostAlike : MethodName := ⟨RX0, "mostAlike", "(IIIZ)I"⟩
def dkwX0_mostAlike_2 : List UInt8 := [132, 6, 1, 167, 255, 213, 21, 5, 27, 184, 1, 75, 21, 5, 100, 184, 1, 151, 172]
abbrev dktX0_mostAlike_2 : List UInt8 := dkwX0_mostAlike_2 ++ []
def dkwX0_mostAlike_1 : List UInt8 := [160, 0, 20, 42, 21, 6, 28, 29, 21, 4, 182, 0, 160, 153, 0, 7, 4, 167, 0, 4, 3, 96, 54, 5]
abbrev dktX0_mostAlike_1 : List UInt8 := dkwX0_mostAlike_1 ++ dktX0_mostAlike_2
def dkwX0_mostAlike_0 : List UInt8 := [3, 54, 5, 3, 54, 6, 21, 6, 16, 6, 162, 0, 42, 21, 5, 27, 21, 6, 122, 4, 126, 4]
abbrev dktX0_mostAlike_0 : List UInt8 := dkwX0_mostAlike_0 ++ dktX0_mostAlike_1
theorem dksX0_mostAlike_0 : cX0_mostAlike.data.toList.drop 0 = dktX0_mostAlike_0 := by decide +kernel
theorem dksX0_mostAlike_1 : cX0_mostAlike.data.toList.drop 22 = dktX0_mostAlike_1 := dk_seg dksX0_mostAlike_0 22 rfl rfl
theorem dksX0_mostAlike_2 : cX0_mostAlike.data.toList.drop 46 = dktX0_mostAlike_2 := dk_seg dksX0_mostAlike_1 24 rfl rfl
theorem dX0_mostAlike_0 : decode cX0_mostAlike 0 = .ok (.iconst 0, 1) := dk_3 (dk_at dksX0_mostAlike_0 0 rfl rfl)
theorem dX0_mostAlike_1 : decode cX0_mostAlike 1 = .ok (.istore 5, 2) := dk_54 5 (dk_at dksX0_mostAlike_0 1 rfl rfl)
theorem dX0_mostAlike_3 : decode cX0_mostAlike 3 = .ok (.iconst 0, 1) := dk_3 (dk_at dksX0_mostAlike_0 3 rfl rfl)
theorem dX0_mostAlike_4 : decode cX0_mostAlike 4 = .ok (.istore 6, 2) := dk_54 6 (dk_at dksX0_mostAlike_0 4 rfl rfl)
theorem dX0_mostAlike_6 : decode cX0_mostAlike 6 = .ok (.iload 6, 2) := dk_21 6 (dk_at dksX0_mostAlike_0 6 rfl rfl)
theorem dX0_mostAlike_8 : decode cX0_mostAlike 8 = .ok (.bipush 6, 2) := dk_16 6 (dk_at dksX0_mostAlike_0 8 rfl rfl)
theorem dX0_mostAlike_10 : decode cX0_mostAlike 10 = .ok (.if_icmp .ge 42, 3) := dk_162 0 42 (dk_at dksX0_mostAlike_0 10 rfl rfl)
theorem dX0_mostAlike_13 : decode cX0_mostAlike 13 = .ok (.iload 5, 2) := dk_21 5 (dk_at dksX0_mostAlike_0 13 rfl rfl)
theorem dX0_mostAlike_15 : decode cX0_mostAlike 15 = .ok (.iload_n 1, 1) := dk_27 (dk_at dksX0_mostAlike_0 15 rfl rfl)
theorem dX0_mostAlike_16 : decode cX0_mostAlike 16 = .ok (.iload 6, 2) := dk_21 6 (dk_at dksX0_mostAlike_0 16 rfl rfl)
theorem dX0_mostAlike_18 : decode cX0_mostAlike 18 = .ok (.ishr, 1) := dk_122 (dk_at dksX0_mostAlike_0 18 rfl rfl)
theorem dX0_mostAlike_19 : decode cX0_mostAlike 19 = .ok (.iconst 1, 1) := dk_4 (dk_at dksX0_mostAlike_0 19 rfl rfl)
theorem dX0_mostAlike_20 : decode cX0_mostAlike 20 = .ok (.iand, 1) := dk_126 (dk_at dksX0_mostAlike_0 20 rfl rfl)
theorem dX0_mostAlike_21 : decode cX0_mostAlike 21 = .ok (.iconst 1, 1) := dk_4 (dk_at dksX0_mostAlike_0 21 rfl rfl)
theorem dX0_mostAlike_22 : decode cX0_mostAlike 22 = .ok (.if_icmp .ne 20, 3) := dk_160 0 20 (dk_at dksX0_mostAlike_1 0 rfl rfl)
theorem dX0_mostAlike_25 : decode cX0_mostAlike 25 = .ok (.aload_n 0, 1) := dk_42 (dk_at dksX0_mostAlike_1 3 rfl rfl)
theorem dX0_mostAlike_26 : decode cX0_mostAlike 26 = .ok (.iload 6, 2) := dk_21 6 (dk_at dksX0_mostAlike_1 4 rfl rfl)
theorem dX0_mostAlike_28 : decode cX0_mostAlike 28 = .ok (.iload_n 2, 1) := dk_28 (dk_at dksX0_mostAlike_1 6 rfl rfl)
theorem dX0_mostAlike_29 : decode cX0_mostAlike 29 = .ok (.iload_n 3, 1) := dk_29 (dk_at dksX0_mostAlike_1 7 rfl rfl)
theorem dX0_mostAlike_30 : decode cX0_mostAlike 30 = .ok (.iload 4, 2) := dk_21 4 (dk_at dksX0_mostAlike_1 8 rfl rfl)
theorem dX0_mostAlike_32 : decode cX0_mostAlike 32 = .ok (.invokevirtual 160, 3) := dk_182 0 160 (dk_at dksX0_mostAlike_1 10 rfl rfl)
theorem dX0_mostAlike_35 : decode cX0_mostAlike 35 = .ok (.ifCond .eq 7, 3) := dk_153 0 7 (dk_at dksX0_mostAlike_1 13 rfl rfl)
theorem dX0_mostAlike_38 : decode cX0_mostAlike 38 = .ok (.iconst 1, 1) := dk_4 (dk_at dksX0_mostAlike_1 16 rfl rfl)
theorem dX0_mostAlike_39 : decode cX0_mostAlike 39 = .ok (.goto 4, 3) := dk_167 0 4 (dk_at dksX0_mostAlike_1 17 rfl rfl)
theorem dX0_mostAlike_42 : decode cX0_mostAlike 42 = .ok (.iconst 0, 1) := dk_3 (dk_at dksX0_mostAlike_1 20 rfl rfl)
theorem dX0_mostAlike_43 : decode cX0_mostAlike 43 = .ok (.iadd, 1) := dk_96 (dk_at dksX0_mostAlike_1 21 rfl rfl)
theorem dX0_mostAlike_44 : decode cX0_mostAlike 44 = .ok (.istore 5, 2) := dk_54 5 (dk_at dksX0_mostAlike_1 22 rfl rfl)
theorem dX0_mostAlike_46 : decode cX0_mostAlike 46 = .ok (.iinc 6 1, 3) := dk_132 6 1 (dk_at dksX0_mostAlike_2 0 rfl rfl)
theorem dX0_mostAlike_49 : decode cX0_mostAlike 49 = .ok (.goto (-43), 3) := dk_167 255 213 (dk_at dksX0_mostAlike_2 3 rfl rfl)
theorem dX0_mostAlike_52 : decode cX0_mostAlike 52 = .ok (.iload 5, 2) := dk_21 5 (dk_at dksX0_mostAlike_2 6 rfl rfl)
theorem dX0_mostAlike_54 : decode cX0_mostAlike 54 = .ok (.iload_n 1, 1) := dk_27 (dk_at dksX0_mostAlike_2 8 rfl rfl)
theorem dX0_mostAlike_55 : decode cX0_mostAlike 55 = .ok (.invokestatic 331, 3) := dk_184 1 75 (dk_at dksX0_mostAlike_2 9 rfl rfl)
theorem dX0_mostAlike_58 : decode cX0_mostAlike 58 = .ok (.iload 5, 2) := dk_21 5 (dk_at dksX0_mostAlike_2 12 rfl rfl)
theorem dX0_mostAlike_60 : decode cX0_mostAlike 60 = .ok (.isub, 1) := dk_100 (dk_at dksX0_mostAlike_2 14 rfl rfl)
theorem dX0_mostAlike_61 : decode cX0_mostAlike 61 = .ok (.invokestatic 407, 3) := dk_184 1 151 (dk_at dksX0_mostAlike_2 15 rfl rfl)
theorem dX0_mostAlike_64 : decode cX0_mostAlike 64 = .ok (.ireturn, 1) := dk_172 (dk_at dksX0_mostAlike_2 18 rfl rfl)
abbrev MX0_mostAlike : jjM := (yX0_mostAlike, cX0_mostAlike, 7, (Option.some Jvm.ClassFile.FieldType.int))
theorem npX0_mostAlike : yX0_mostAlike.cls ≠ "java/lang/invoke/MethodHandle" ∧ yX0_mostAlike.cls ≠ "java/lang/invoke/VarHandle" ∧ (parseMethodDescriptor yX0_mostAlike.desc).map (fun d => d.parameters.length) = some 4 := by decide +kernel
abbrev cX0_fits : ByteArray := prog_1_method_85_code
def yX0_fits : MethodName := ⟨RX0, "fits", "(I)I"⟩
def dkwX0_fits_5 : List UInt8 := [167, 255, 173, 29, 172]
abbrev dktX0_fits_5 : List UInt8 := dkwX0_fits_5 ++ []
def dkwX0_fits_4 : List UInt8 := [160, 0, 13, 21, 6, 21, 4, 161, 0, 6, 167, 0, 10, 21, 5, 62, 21, 6, 54, 4, 132, 5, 1]
abbrev dktX0_fits_4 : List UInt8 := dkwX0_fits_4 ++ dktX0_fits_5
def dkwX0_fits_3 : List UInt8 := [21, 6, 2, 159, 0, 40, 21, 6, 28, 163, 0, 34, 21, 7, 21, 8, 161, 0, 27, 21, 7, 21, 8]
abbrev dktX0_fits_3 : List UInt8 := dkwX0_fits_3 ++ dktX0_fits_4
def dkwX0_fits_2 : List UInt8 := [162, 0, 73, 42, 21, 5, 182, 1, 160, 54, 6, 21, 5, 184, 1, 75, 54, 7, 29, 184, 1, 75, 54, 8]
abbrev dktX0_fits_2 : List UInt8 := dkwX0_fits_2 ++ dktX0_fits_3
def dkwX0_fits_1 : List UInt8 := [61, 3, 62, 3, 54, 4, 4, 54, 5, 21, 5, 4, 42, 180, 0, 12, 180, 0, 71, 3, 46, 120]
abbrev dktX0_fits_1 : List UInt8 := dkwX0_fits_1 ++ dktX0_fits_2
def dkwX0_fits_0 : List UInt8 := [27, 184, 0, 87, 154, 0, 5, 2, 172, 42, 180, 0, 12, 180, 0, 93, 27, 46, 42, 27, 182, 0, 90, 100]
abbrev dktX0_fits_0 : List UInt8 := dkwX0_fits_0 ++ dktX0_fits_1
theorem dksX0_fits_0 : cX0_fits.data.toList.drop 0 = dktX0_fits_0 := by decide +kernel
theorem dksX0_fits_1 : cX0_fits.data.toList.drop 24 = dktX0_fits_1 := dk_seg dksX0_fits_0 24 rfl rfl
theorem dksX0_fits_2 : cX0_fits.data.toList.drop 46 = dktX0_fits_2 := dk_seg dksX0_fits_1 22 rfl rfl
theorem dksX0_fits_3 : cX0_fits.data.toList.drop 70 = dktX0_fits_3 := dk_seg dksX0_fits_2 24 rfl rfl
theorem dksX0_fits_4 : cX0_fits.data.toList.drop 93 = dktX0_fits_4 := dk_seg dksX0_fits_3 23 rfl rfl
theorem dksX0_fits_5 : cX0_fits.data.toList.drop 116 = dktX0_fits_5 := dk_seg dksX0_fits_4 23 rfl rfl
theorem dX0_fits_0 : decode cX0_fits 0 = .ok (.iload_n 1, 1) := dk_27 (dk_at dksX0_fits_0 0 rfl rfl)
theorem dX0_fits_1 : decode cX0_fits 1 = .ok (.invokestatic 87, 3) := dk_184 0 87 (dk_at dksX0_fits_0 1 rfl rfl)
theorem dX0_fits_4 : decode cX0_fits 4 = .ok (.ifCond .ne 5, 3) := dk_154 0 5 (dk_at dksX0_fits_0 4 rfl rfl)
theorem dX0_fits_7 : decode cX0_fits 7 = .ok (.iconst (-1), 1) := dk_2 (dk_at dksX0_fits_0 7 rfl rfl)
theorem dX0_fits_8 : decode cX0_fits 8 = .ok (.ireturn, 1) := dk_172 (dk_at dksX0_fits_0 8 rfl rfl)
theorem dX0_fits_9 : decode cX0_fits 9 = .ok (.aload_n 0, 1) := dk_42 (dk_at dksX0_fits_0 9 rfl rfl)
theorem dX0_fits_10 : decode cX0_fits 10 = .ok (.getfield 12, 3) := dk_180 0 12 (dk_at dksX0_fits_0 10 rfl rfl)
theorem dX0_fits_13 : decode cX0_fits 13 = .ok (.getfield 93, 3) := dk_180 0 93 (dk_at dksX0_fits_0 13 rfl rfl)
theorem dX0_fits_16 : decode cX0_fits 16 = .ok (.iload_n 1, 1) := dk_27 (dk_at dksX0_fits_0 16 rfl rfl)
theorem dX0_fits_17 : decode cX0_fits 17 = .ok (.iaload, 1) := dk_46 (dk_at dksX0_fits_0 17 rfl rfl)
theorem dX0_fits_18 : decode cX0_fits 18 = .ok (.aload_n 0, 1) := dk_42 (dk_at dksX0_fits_0 18 rfl rfl)
theorem dX0_fits_19 : decode cX0_fits 19 = .ok (.iload_n 1, 1) := dk_27 (dk_at dksX0_fits_0 19 rfl rfl)
theorem dX0_fits_20 : decode cX0_fits 20 = .ok (.invokevirtual 90, 3) := dk_182 0 90 (dk_at dksX0_fits_0 20 rfl rfl)
theorem dX0_fits_23 : decode cX0_fits 23 = .ok (.isub, 1) := dk_100 (dk_at dksX0_fits_0 23 rfl rfl)
theorem dX0_fits_24 : decode cX0_fits 24 = .ok (.istore_n 2, 1) := dk_61 (dk_at dksX0_fits_1 0 rfl rfl)
theorem dX0_fits_25 : decode cX0_fits 25 = .ok (.iconst 0, 1) := dk_3 (dk_at dksX0_fits_1 1 rfl rfl)
theorem dX0_fits_26 : decode cX0_fits 26 = .ok (.istore_n 3, 1) := dk_62 (dk_at dksX0_fits_1 2 rfl rfl)
theorem dX0_fits_27 : decode cX0_fits 27 = .ok (.iconst 0, 1) := dk_3 (dk_at dksX0_fits_1 3 rfl rfl)
theorem dX0_fits_28 : decode cX0_fits 28 = .ok (.istore 4, 2) := dk_54 4 (dk_at dksX0_fits_1 4 rfl rfl)
theorem dX0_fits_30 : decode cX0_fits 30 = .ok (.iconst 1, 1) := dk_4 (dk_at dksX0_fits_1 6 rfl rfl)
theorem dX0_fits_31 : decode cX0_fits 31 = .ok (.istore 5, 2) := dk_54 5 (dk_at dksX0_fits_1 7 rfl rfl)
theorem dX0_fits_33 : decode cX0_fits 33 = .ok (.iload 5, 2) := dk_21 5 (dk_at dksX0_fits_1 9 rfl rfl)
theorem dX0_fits_35 : decode cX0_fits 35 = .ok (.iconst 1, 1) := dk_4 (dk_at dksX0_fits_1 11 rfl rfl)
theorem dX0_fits_36 : decode cX0_fits 36 = .ok (.aload_n 0, 1) := dk_42 (dk_at dksX0_fits_1 12 rfl rfl)
theorem dX0_fits_37 : decode cX0_fits 37 = .ok (.getfield 12, 3) := dk_180 0 12 (dk_at dksX0_fits_1 13 rfl rfl)
theorem dX0_fits_40 : decode cX0_fits 40 = .ok (.getfield 71, 3) := dk_180 0 71 (dk_at dksX0_fits_1 16 rfl rfl)
theorem dX0_fits_43 : decode cX0_fits 43 = .ok (.iconst 0, 1) := dk_3 (dk_at dksX0_fits_1 19 rfl rfl)
theorem dX0_fits_44 : decode cX0_fits 44 = .ok (.iaload, 1) := dk_46 (dk_at dksX0_fits_1 20 rfl rfl)
theorem dX0_fits_45 : decode cX0_fits 45 = .ok (.ishl, 1) := dk_120 (dk_at dksX0_fits_1 21 rfl rfl)
theorem dX0_fits_46 : decode cX0_fits 46 = .ok (.if_icmp .ge 73, 3) := dk_162 0 73 (dk_at dksX0_fits_2 0 rfl rfl)
theorem dX0_fits_49 : decode cX0_fits 49 = .ok (.aload_n 0, 1) := dk_42 (dk_at dksX0_fits_2 3 rfl rfl)
theorem dX0_fits_50 : decode cX0_fits 50 = .ok (.iload 5, 2) := dk_21 5 (dk_at dksX0_fits_2 4 rfl rfl)
theorem dX0_fits_52 : decode cX0_fits 52 = .ok (.invokevirtual 416, 3) := dk_182 1 160 (dk_at dksX0_fits_2 6 rfl rfl)
theorem dX0_fits_55 : decode cX0_fits 55 = .ok (.istore 6, 2) := dk_54 6 (dk_at dksX0_fits_2 9 rfl rfl)
theorem dX0_fits_57 : decode cX0_fits 57 = .ok (.iload 5, 2) := dk_21 5 (dk_at dksX0_fits_2 11 rfl rfl)
theorem dX0_fits_59 : decode cX0_fits 59 = .ok (.invokestatic 331, 3) := dk_184 1 75 (dk_at dksX0_fits_2 13 rfl rfl)
theorem dX0_fits_62 : decode cX0_fits 62 = .ok (.istore 7, 2) := dk_54 7 (dk_at dksX0_fits_2 16 rfl rfl)
theorem dX0_fits_64 : decode cX0_fits 64 = .ok (.iload_n 3, 1) := dk_29 (dk_at dksX0_fits_2 18 rfl rfl)
theorem dX0_fits_65 : decode cX0_fits 65 = .ok (.invokestatic 331, 3) := dk_184 1 75 (dk_at dksX0_fits_2 19 rfl rfl)
theorem dX0_fits_68 : decode cX0_fits 68 = .ok (.istore 8, 2) := dk_54 8 (dk_at dksX0_fits_2 22 rfl rfl)
theorem dX0_fits_70 : decode cX0_fits 70 = .ok (.iload 6, 2) := dk_21 6 (dk_at dksX0_fits_3 0 rfl rfl)
theorem dX0_fits_72 : decode cX0_fits 72 = .ok (.iconst (-1), 1) := dk_2 (dk_at dksX0_fits_3 2 rfl rfl)
theorem dX0_fits_73 : decode cX0_fits 73 = .ok (.if_icmp .eq 40, 3) := dk_159 0 40 (dk_at dksX0_fits_3 3 rfl rfl)
theorem dX0_fits_76 : decode cX0_fits 76 = .ok (.iload 6, 2) := dk_21 6 (dk_at dksX0_fits_3 6 rfl rfl)
theorem dX0_fits_78 : decode cX0_fits 78 = .ok (.iload_n 2, 1) := dk_28 (dk_at dksX0_fits_3 8 rfl rfl)
theorem dX0_fits_79 : decode cX0_fits 79 = .ok (.if_icmp .gt 34, 3) := dk_163 0 34 (dk_at dksX0_fits_3 9 rfl rfl)
theorem dX0_fits_82 : decode cX0_fits 82 = .ok (.iload 7, 2) := dk_21 7 (dk_at dksX0_fits_3 12 rfl rfl)
theorem dX0_fits_84 : decode cX0_fits 84 = .ok (.iload 8, 2) := dk_21 8 (dk_at dksX0_fits_3 14 rfl rfl)
theorem dX0_fits_86 : decode cX0_fits 86 = .ok (.if_icmp .lt 27, 3) := dk_161 0 27 (dk_at dksX0_fits_3 16 rfl rfl)
theorem dX0_fits_89 : decode cX0_fits 89 = .ok (.iload 7, 2) := dk_21 7 (dk_at dksX0_fits_3 19 rfl rfl)
theorem dX0_fits_91 : decode cX0_fits 91 = .ok (.iload 8, 2) := dk_21 8 (dk_at dksX0_fits_3 21 rfl rfl)
theorem dX0_fits_93 : decode cX0_fits 93 = .ok (.if_icmp .ne 13, 3) := dk_160 0 13 (dk_at dksX0_fits_4 0 rfl rfl)
theorem dX0_fits_96 : decode cX0_fits 96 = .ok (.iload 6, 2) := dk_21 6 (dk_at dksX0_fits_4 3 rfl rfl)
theorem dX0_fits_98 : decode cX0_fits 98 = .ok (.iload 4, 2) := dk_21 4 (dk_at dksX0_fits_4 5 rfl rfl)
theorem dX0_fits_100 : decode cX0_fits 100 = .ok (.if_icmp .lt 6, 3) := dk_161 0 6 (dk_at dksX0_fits_4 7 rfl rfl)
theorem dX0_fits_103 : decode cX0_fits 103 = .ok (.goto 10, 3) := dk_167 0 10 (dk_at dksX0_fits_4 10 rfl rfl)
theorem dX0_fits_106 : decode cX0_fits 106 = .ok (.iload 5, 2) := dk_21 5 (dk_at dksX0_fits_4 13 rfl rfl)
theorem dX0_fits_108 : decode cX0_fits 108 = .ok (.istore_n 3, 1) := dk_62 (dk_at dksX0_fits_4 15 rfl rfl)
theorem dX0_fits_109 : decode cX0_fits 109 = .ok (.iload 6, 2) := dk_21 6 (dk_at dksX0_fits_4 16 rfl rfl)
theorem dX0_fits_111 : decode cX0_fits 111 = .ok (.istore 4, 2) := dk_54 4 (dk_at dksX0_fits_4 18 rfl rfl)
theorem dX0_fits_113 : decode cX0_fits 113 = .ok (.iinc 5 1, 3) := dk_132 5 1 (dk_at dksX0_fits_4 20 rfl rfl)
theorem dX0_fits_116 : decode cX0_fits 116 = .ok (.goto (-83), 3) := dk_167 255 173 (dk_at dksX0_fits_5 0 rfl rfl)
theorem dX0_fits_119 : decode cX0_fits 119 = .ok (.iload_n 3, 1) := dk_29 (dk_at dksX0_fits_5 3 rfl rfl)
theorem dX0_fits_120 : decode cX0_fits 120 = .ok (.ireturn, 1) := dk_172 (dk_at dksX0_fits_5 4 rfl rfl)
abbrev MX0_fits : jjM := (yX0_fits, cX0_fits, 9, (Option.some Jvm.ClassFile.FieldType.int))
theorem npX0_fits : yX0_fits.cls ≠ "java/lang/invoke/MethodHandle" ∧ yX0_fits.cls ≠ "java/lang/invoke/VarHandle" ∧ (parseMethodDescriptor yX0_fits.desc).map (fun d => d.parameters.length) = some 1 := by decide +kernel
