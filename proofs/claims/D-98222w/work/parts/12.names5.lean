/-! names, code and decode rows of the methods (out of claim/names) -/
set_option maxRecDepth 100000
abbrev cX2_pull : ByteArray := prog_17_method_72_code
def yX2_pull : MethodName := ⟨RX2, "pull", "(III)V"⟩
def dkwX2_pull_2 : List UInt8 := [21, 4, 4, 96, 182, 0, 101, 182, 1, 60, 132, 4, 1, 167, 255, 223, 177]
abbrev dktX2_pull_2 : List UInt8 := dkwX2_pull_2 ++ []
def dkwX2_pull_1 : List UInt8 := [79, 28, 54, 4, 21, 4, 42, 180, 0, 7, 16, 13, 27, 96, 46, 162, 0, 25, 42, 27, 21, 4, 42, 27]
abbrev dktX2_pull_1 : List UInt8 := dkwX2_pull_1 ++ dktX2_pull_2
def dkwX2_pull_0 : List UInt8 := [42, 42, 27, 28, 182, 0, 101, 8, 29, 182, 0, 104, 42, 180, 0, 7, 16, 13, 27, 96, 92, 46, 4, 100]
abbrev dktX2_pull_0 : List UInt8 := dkwX2_pull_0 ++ dktX2_pull_1
theorem dksX2_pull_0 : cX2_pull.data.toList.drop 0 = dktX2_pull_0 := by decide +kernel
theorem dksX2_pull_1 : cX2_pull.data.toList.drop 24 = dktX2_pull_1 := dk_seg dksX2_pull_0 24 rfl rfl
theorem dksX2_pull_2 : cX2_pull.data.toList.drop 48 = dktX2_pull_2 := dk_seg dksX2_pull_1 24 rfl rfl
theorem dX2_pull_0 : decode cX2_pull 0 = .ok (.aload_n 0, 1) := dk_42 (dk_at dksX2_pull_0 0 rfl rfl)
theorem dX2_pull_1 : decode cX2_pull 1 = .ok (.aload_n 0, 1) := dk_42 (dk_at dksX2_pull_0 1 rfl rfl)
theorem dX2_pull_2 : decode cX2_pull 2 = .ok (.iload_n 1, 1) := dk_27 (dk_at dksX2_pull_0 2 rfl rfl)
theorem dX2_pull_3 : decode cX2_pull 3 = .ok (.iload_n 2, 1) := dk_28 (dk_at dksX2_pull_0 3 rfl rfl)
theorem dX2_pull_4 : decode cX2_pull 4 = .ok (.invokevirtual 101, 3) := dk_182 0 101 (dk_at dksX2_pull_0 4 rfl rfl)
theorem dX2_pull_7 : decode cX2_pull 7 = .ok (.iconst 5, 1) := dk_8 (dk_at dksX2_pull_0 7 rfl rfl)
theorem dX2_pull_8 : decode cX2_pull 8 = .ok (.iload_n 3, 1) := dk_29 (dk_at dksX2_pull_0 8 rfl rfl)
theorem dX2_pull_9 : decode cX2_pull 9 = .ok (.invokevirtual 104, 3) := dk_182 0 104 (dk_at dksX2_pull_0 9 rfl rfl)
theorem dX2_pull_12 : decode cX2_pull 12 = .ok (.aload_n 0, 1) := dk_42 (dk_at dksX2_pull_0 12 rfl rfl)
theorem dX2_pull_13 : decode cX2_pull 13 = .ok (.getfield 7, 3) := dk_180 0 7 (dk_at dksX2_pull_0 13 rfl rfl)
theorem dX2_pull_16 : decode cX2_pull 16 = .ok (.bipush 13, 2) := dk_16 13 (dk_at dksX2_pull_0 16 rfl rfl)
theorem dX2_pull_18 : decode cX2_pull 18 = .ok (.iload_n 1, 1) := dk_27 (dk_at dksX2_pull_0 18 rfl rfl)
theorem dX2_pull_19 : decode cX2_pull 19 = .ok (.iadd, 1) := dk_96 (dk_at dksX2_pull_0 19 rfl rfl)
theorem dX2_pull_20 : decode cX2_pull 20 = .ok (.dup2, 1) := dk_92 (dk_at dksX2_pull_0 20 rfl rfl)
theorem dX2_pull_21 : decode cX2_pull 21 = .ok (.iaload, 1) := dk_46 (dk_at dksX2_pull_0 21 rfl rfl)
theorem dX2_pull_22 : decode cX2_pull 22 = .ok (.iconst 1, 1) := dk_4 (dk_at dksX2_pull_0 22 rfl rfl)
theorem dX2_pull_23 : decode cX2_pull 23 = .ok (.isub, 1) := dk_100 (dk_at dksX2_pull_0 23 rfl rfl)
theorem dX2_pull_24 : decode cX2_pull 24 = .ok (.iastore, 1) := dk_79 (dk_at dksX2_pull_1 0 rfl rfl)
theorem dX2_pull_25 : decode cX2_pull 25 = .ok (.iload_n 2, 1) := dk_28 (dk_at dksX2_pull_1 1 rfl rfl)
theorem dX2_pull_26 : decode cX2_pull 26 = .ok (.istore 4, 2) := dk_54 4 (dk_at dksX2_pull_1 2 rfl rfl)
theorem dX2_pull_28 : decode cX2_pull 28 = .ok (.iload 4, 2) := dk_21 4 (dk_at dksX2_pull_1 4 rfl rfl)
theorem dX2_pull_30 : decode cX2_pull 30 = .ok (.aload_n 0, 1) := dk_42 (dk_at dksX2_pull_1 6 rfl rfl)
theorem dX2_pull_31 : decode cX2_pull 31 = .ok (.getfield 7, 3) := dk_180 0 7 (dk_at dksX2_pull_1 7 rfl rfl)
theorem dX2_pull_34 : decode cX2_pull 34 = .ok (.bipush 13, 2) := dk_16 13 (dk_at dksX2_pull_1 10 rfl rfl)
theorem dX2_pull_36 : decode cX2_pull 36 = .ok (.iload_n 1, 1) := dk_27 (dk_at dksX2_pull_1 12 rfl rfl)
theorem dX2_pull_37 : decode cX2_pull 37 = .ok (.iadd, 1) := dk_96 (dk_at dksX2_pull_1 13 rfl rfl)
theorem dX2_pull_38 : decode cX2_pull 38 = .ok (.iaload, 1) := dk_46 (dk_at dksX2_pull_1 14 rfl rfl)
theorem dX2_pull_39 : decode cX2_pull 39 = .ok (.if_icmp .ge 25, 3) := dk_162 0 25 (dk_at dksX2_pull_1 15 rfl rfl)
theorem dX2_pull_42 : decode cX2_pull 42 = .ok (.aload_n 0, 1) := dk_42 (dk_at dksX2_pull_1 18 rfl rfl)
theorem dX2_pull_43 : decode cX2_pull 43 = .ok (.iload_n 1, 1) := dk_27 (dk_at dksX2_pull_1 19 rfl rfl)
theorem dX2_pull_44 : decode cX2_pull 44 = .ok (.iload 4, 2) := dk_21 4 (dk_at dksX2_pull_1 20 rfl rfl)
theorem dX2_pull_46 : decode cX2_pull 46 = .ok (.aload_n 0, 1) := dk_42 (dk_at dksX2_pull_1 22 rfl rfl)
theorem dX2_pull_47 : decode cX2_pull 47 = .ok (.iload_n 1, 1) := dk_27 (dk_at dksX2_pull_1 23 rfl rfl)
theorem dX2_pull_48 : decode cX2_pull 48 = .ok (.iload 4, 2) := dk_21 4 (dk_at dksX2_pull_2 0 rfl rfl)
theorem dX2_pull_50 : decode cX2_pull 50 = .ok (.iconst 1, 1) := dk_4 (dk_at dksX2_pull_2 2 rfl rfl)
theorem dX2_pull_51 : decode cX2_pull 51 = .ok (.iadd, 1) := dk_96 (dk_at dksX2_pull_2 3 rfl rfl)
theorem dX2_pull_52 : decode cX2_pull 52 = .ok (.invokevirtual 101, 3) := dk_182 0 101 (dk_at dksX2_pull_2 4 rfl rfl)
theorem dX2_pull_55 : decode cX2_pull 55 = .ok (.invokevirtual 316, 3) := dk_182 1 60 (dk_at dksX2_pull_2 7 rfl rfl)
theorem dX2_pull_58 : decode cX2_pull 58 = .ok (.iinc 4 1, 3) := dk_132 4 1 (dk_at dksX2_pull_2 10 rfl rfl)
theorem dX2_pull_61 : decode cX2_pull 61 = .ok (.goto (-33), 3) := dk_167 255 223 (dk_at dksX2_pull_2 13 rfl rfl)
theorem dX2_pull_64 : decode cX2_pull 64 = .ok (.return_, 1) := dk_177 (dk_at dksX2_pull_2 16 rfl rfl)
abbrev MX2_pull : jjM := (yX2_pull, cX2_pull, 5, (Option.none : Option Jvm.ClassFile.FieldType))
theorem npX2_pull : yX2_pull.cls ≠ "java/lang/invoke/MethodHandle" ∧ yX2_pull.cls ≠ "java/lang/invoke/VarHandle" ∧ (parseMethodDescriptor yX2_pull.desc).map (fun d => d.parameters.length) = some 3 := by decide +kernel
abbrev cX2_nudge : ByteArray := prog_17_method_82_code
def yX2_nudge : MethodName := ⟨RX2, "nudge", "(II)I"⟩
def dkwX2_nudge_1 : List UInt8 := [154, 0, 5, 2, 172, 42, 182, 1, 83, 42, 27, 28, 182, 1, 70, 42, 27, 28, 182, 0, 101, 172]
abbrev dktX2_nudge_1 : List UInt8 := dkwX2_nudge_1 ++ []
def dkwX2_nudge_0 : List UInt8 := [27, 184, 1, 54, 153, 0, 22, 28, 3, 42, 180, 0, 7, 16, 13, 27, 96, 46, 5, 100, 184, 0, 89]
abbrev dktX2_nudge_0 : List UInt8 := dkwX2_nudge_0 ++ dktX2_nudge_1
theorem dksX2_nudge_0 : cX2_nudge.data.toList.drop 0 = dktX2_nudge_0 := by decide +kernel
theorem dksX2_nudge_1 : cX2_nudge.data.toList.drop 23 = dktX2_nudge_1 := dk_seg dksX2_nudge_0 23 rfl rfl
theorem dX2_nudge_0 : decode cX2_nudge 0 = .ok (.iload_n 1, 1) := dk_27 (dk_at dksX2_nudge_0 0 rfl rfl)
theorem dX2_nudge_1 : decode cX2_nudge 1 = .ok (.invokestatic 310, 3) := dk_184 1 54 (dk_at dksX2_nudge_0 1 rfl rfl)
theorem dX2_nudge_4 : decode cX2_nudge 4 = .ok (.ifCond .eq 22, 3) := dk_153 0 22 (dk_at dksX2_nudge_0 4 rfl rfl)
theorem dX2_nudge_7 : decode cX2_nudge 7 = .ok (.iload_n 2, 1) := dk_28 (dk_at dksX2_nudge_0 7 rfl rfl)
theorem dX2_nudge_8 : decode cX2_nudge 8 = .ok (.iconst 0, 1) := dk_3 (dk_at dksX2_nudge_0 8 rfl rfl)
theorem dX2_nudge_9 : decode cX2_nudge 9 = .ok (.aload_n 0, 1) := dk_42 (dk_at dksX2_nudge_0 9 rfl rfl)
theorem dX2_nudge_10 : decode cX2_nudge 10 = .ok (.getfield 7, 3) := dk_180 0 7 (dk_at dksX2_nudge_0 10 rfl rfl)
theorem dX2_nudge_13 : decode cX2_nudge 13 = .ok (.bipush 13, 2) := dk_16 13 (dk_at dksX2_nudge_0 13 rfl rfl)
theorem dX2_nudge_15 : decode cX2_nudge 15 = .ok (.iload_n 1, 1) := dk_27 (dk_at dksX2_nudge_0 15 rfl rfl)
theorem dX2_nudge_16 : decode cX2_nudge 16 = .ok (.iadd, 1) := dk_96 (dk_at dksX2_nudge_0 16 rfl rfl)
theorem dX2_nudge_17 : decode cX2_nudge 17 = .ok (.iaload, 1) := dk_46 (dk_at dksX2_nudge_0 17 rfl rfl)
theorem dX2_nudge_18 : decode cX2_nudge 18 = .ok (.iconst 2, 1) := dk_5 (dk_at dksX2_nudge_0 18 rfl rfl)
theorem dX2_nudge_19 : decode cX2_nudge 19 = .ok (.isub, 1) := dk_100 (dk_at dksX2_nudge_0 19 rfl rfl)
theorem dX2_nudge_20 : decode cX2_nudge 20 = .ok (.invokestatic 89, 3) := dk_184 0 89 (dk_at dksX2_nudge_0 20 rfl rfl)
theorem dX2_nudge_23 : decode cX2_nudge 23 = .ok (.ifCond .ne 5, 3) := dk_154 0 5 (dk_at dksX2_nudge_1 0 rfl rfl)
theorem dX2_nudge_26 : decode cX2_nudge 26 = .ok (.iconst (-1), 1) := dk_2 (dk_at dksX2_nudge_1 3 rfl rfl)
theorem dX2_nudge_27 : decode cX2_nudge 27 = .ok (.ireturn, 1) := dk_172 (dk_at dksX2_nudge_1 4 rfl rfl)
theorem dX2_nudge_28 : decode cX2_nudge 28 = .ok (.aload_n 0, 1) := dk_42 (dk_at dksX2_nudge_1 5 rfl rfl)
theorem dX2_nudge_29 : decode cX2_nudge 29 = .ok (.invokevirtual 339, 3) := dk_182 1 83 (dk_at dksX2_nudge_1 6 rfl rfl)
theorem dX2_nudge_32 : decode cX2_nudge 32 = .ok (.aload_n 0, 1) := dk_42 (dk_at dksX2_nudge_1 9 rfl rfl)
theorem dX2_nudge_33 : decode cX2_nudge 33 = .ok (.iload_n 1, 1) := dk_27 (dk_at dksX2_nudge_1 10 rfl rfl)
theorem dX2_nudge_34 : decode cX2_nudge 34 = .ok (.iload_n 2, 1) := dk_28 (dk_at dksX2_nudge_1 11 rfl rfl)
theorem dX2_nudge_35 : decode cX2_nudge 35 = .ok (.invokevirtual 326, 3) := dk_182 1 70 (dk_at dksX2_nudge_1 12 rfl rfl)
theorem dX2_nudge_38 : decode cX2_nudge 38 = .ok (.aload_n 0, 1) := dk_42 (dk_at dksX2_nudge_1 15 rfl rfl)
theorem dX2_nudge_39 : decode cX2_nudge 39 = .ok (.iload_n 1, 1) := dk_27 (dk_at dksX2_nudge_1 16 rfl rfl)
theorem dX2_nudge_40 : decode cX2_nudge 40 = .ok (.iload_n 2, 1) := dk_28 (dk_at dksX2_nudge_1 17 rfl rfl)
theorem dX2_nudge_41 : decode cX2_nudge 41 = .ok (.invokevirtual 101, 3) := dk_182 0 101 (dk_at dksX2_nudge_1 18 rfl rfl)
theorem dX2_nudge_44 : decode cX2_nudge 44 = .ok (.ireturn, 1) := dk_172 (dk_at dksX2_nudge_1 21 rfl rfl)
abbrev MX2_nudge : jjM := (yX2_nudge, cX2_nudge, 3, (Option.some Jvm.ClassFile.FieldType.int))
theorem npX2_nudge : yX2_nudge.cls ≠ "java/lang/invoke/MethodHandle" ∧ yX2_nudge.cls ≠ "java/lang/invoke/VarHandle" ∧ (parseMethodDescriptor yX2_nudge.desc).map (fun d => d.parameters.length) = some 2 := by decide +kernel
abbrev cX2_take : ByteArray := prog_17_method_83_code
def yX2_take : MethodName := ⟨RX2, "take", "(I)I"⟩
def dkwX2_take_2 : List UInt8 := [167, 0, 10, 42, 27, 8, 6, 182, 0, 104, 28, 172]
abbrev dktX2_take_2 : List UInt8 := dkwX2_take_2 ++ []
def dkwX2_take_1 : List UInt8 := [42, 27, 8, 182, 0, 97, 61, 28, 6, 162, 0, 17, 42, 28, 42, 27, 182, 1, 98, 6, 182, 1, 77]
abbrev dktX2_take_1 : List UInt8 := dkwX2_take_1 ++ dktX2_take_2
def dkwX2_take_0 : List UInt8 := [42, 27, 182, 0, 93, 153, 0, 13, 42, 27, 8, 182, 0, 97, 6, 160, 0, 5, 2, 172, 42, 182, 1, 83]
abbrev dktX2_take_0 : List UInt8 := dkwX2_take_0 ++ dktX2_take_1
theorem dksX2_take_0 : cX2_take.data.toList.drop 0 = dktX2_take_0 := by decide +kernel
theorem dksX2_take_1 : cX2_take.data.toList.drop 24 = dktX2_take_1 := dk_seg dksX2_take_0 24 rfl rfl
theorem dksX2_take_2 : cX2_take.data.toList.drop 47 = dktX2_take_2 := dk_seg dksX2_take_1 23 rfl rfl
theorem dX2_take_0 : decode cX2_take 0 = .ok (.aload_n 0, 1) := dk_42 (dk_at dksX2_take_0 0 rfl rfl)
theorem dX2_take_1 : decode cX2_take 1 = .ok (.iload_n 1, 1) := dk_27 (dk_at dksX2_take_0 1 rfl rfl)
theorem dX2_take_2 : decode cX2_take 2 = .ok (.invokevirtual 93, 3) := dk_182 0 93 (dk_at dksX2_take_0 2 rfl rfl)
theorem dX2_take_5 : decode cX2_take 5 = .ok (.ifCond .eq 13, 3) := dk_153 0 13 (dk_at dksX2_take_0 5 rfl rfl)
theorem dX2_take_8 : decode cX2_take 8 = .ok (.aload_n 0, 1) := dk_42 (dk_at dksX2_take_0 8 rfl rfl)
theorem dX2_take_9 : decode cX2_take 9 = .ok (.iload_n 1, 1) := dk_27 (dk_at dksX2_take_0 9 rfl rfl)
theorem dX2_take_10 : decode cX2_take 10 = .ok (.iconst 5, 1) := dk_8 (dk_at dksX2_take_0 10 rfl rfl)
theorem dX2_take_11 : decode cX2_take 11 = .ok (.invokevirtual 97, 3) := dk_182 0 97 (dk_at dksX2_take_0 11 rfl rfl)
theorem dX2_take_14 : decode cX2_take 14 = .ok (.iconst 3, 1) := dk_6 (dk_at dksX2_take_0 14 rfl rfl)
theorem dX2_take_15 : decode cX2_take 15 = .ok (.if_icmp .ne 5, 3) := dk_160 0 5 (dk_at dksX2_take_0 15 rfl rfl)
theorem dX2_take_18 : decode cX2_take 18 = .ok (.iconst (-1), 1) := dk_2 (dk_at dksX2_take_0 18 rfl rfl)
theorem dX2_take_19 : decode cX2_take 19 = .ok (.ireturn, 1) := dk_172 (dk_at dksX2_take_0 19 rfl rfl)
theorem dX2_take_20 : decode cX2_take 20 = .ok (.aload_n 0, 1) := dk_42 (dk_at dksX2_take_0 20 rfl rfl)
theorem dX2_take_21 : decode cX2_take 21 = .ok (.invokevirtual 339, 3) := dk_182 1 83 (dk_at dksX2_take_0 21 rfl rfl)
theorem dX2_take_24 : decode cX2_take 24 = .ok (.aload_n 0, 1) := dk_42 (dk_at dksX2_take_1 0 rfl rfl)
theorem dX2_take_25 : decode cX2_take 25 = .ok (.iload_n 1, 1) := dk_27 (dk_at dksX2_take_1 1 rfl rfl)
theorem dX2_take_26 : decode cX2_take 26 = .ok (.iconst 5, 1) := dk_8 (dk_at dksX2_take_1 2 rfl rfl)
theorem dX2_take_27 : decode cX2_take 27 = .ok (.invokevirtual 97, 3) := dk_182 0 97 (dk_at dksX2_take_1 3 rfl rfl)
theorem dX2_take_30 : decode cX2_take 30 = .ok (.istore_n 2, 1) := dk_61 (dk_at dksX2_take_1 6 rfl rfl)
theorem dX2_take_31 : decode cX2_take 31 = .ok (.iload_n 2, 1) := dk_28 (dk_at dksX2_take_1 7 rfl rfl)
theorem dX2_take_32 : decode cX2_take 32 = .ok (.iconst 3, 1) := dk_6 (dk_at dksX2_take_1 8 rfl rfl)
theorem dX2_take_33 : decode cX2_take 33 = .ok (.if_icmp .ge 17, 3) := dk_162 0 17 (dk_at dksX2_take_1 9 rfl rfl)
theorem dX2_take_36 : decode cX2_take 36 = .ok (.aload_n 0, 1) := dk_42 (dk_at dksX2_take_1 12 rfl rfl)
theorem dX2_take_37 : decode cX2_take 37 = .ok (.iload_n 2, 1) := dk_28 (dk_at dksX2_take_1 13 rfl rfl)
theorem dX2_take_38 : decode cX2_take 38 = .ok (.aload_n 0, 1) := dk_42 (dk_at dksX2_take_1 14 rfl rfl)
theorem dX2_take_39 : decode cX2_take 39 = .ok (.iload_n 1, 1) := dk_27 (dk_at dksX2_take_1 15 rfl rfl)
theorem dX2_take_40 : decode cX2_take 40 = .ok (.invokevirtual 354, 3) := dk_182 1 98 (dk_at dksX2_take_1 16 rfl rfl)
theorem dX2_take_43 : decode cX2_take 43 = .ok (.iconst 3, 1) := dk_6 (dk_at dksX2_take_1 19 rfl rfl)
theorem dX2_take_44 : decode cX2_take 44 = .ok (.invokevirtual 333, 3) := dk_182 1 77 (dk_at dksX2_take_1 20 rfl rfl)
theorem dX2_take_47 : decode cX2_take 47 = .ok (.goto 10, 3) := dk_167 0 10 (dk_at dksX2_take_2 0 rfl rfl)
theorem dX2_take_50 : decode cX2_take 50 = .ok (.aload_n 0, 1) := dk_42 (dk_at dksX2_take_2 3 rfl rfl)
theorem dX2_take_51 : decode cX2_take 51 = .ok (.iload_n 1, 1) := dk_27 (dk_at dksX2_take_2 4 rfl rfl)
theorem dX2_take_52 : decode cX2_take 52 = .ok (.iconst 5, 1) := dk_8 (dk_at dksX2_take_2 5 rfl rfl)
theorem dX2_take_53 : decode cX2_take 53 = .ok (.iconst 3, 1) := dk_6 (dk_at dksX2_take_2 6 rfl rfl)
theorem dX2_take_54 : decode cX2_take 54 = .ok (.invokevirtual 104, 3) := dk_182 0 104 (dk_at dksX2_take_2 7 rfl rfl)
theorem dX2_take_57 : decode cX2_take 57 = .ok (.iload_n 2, 1) := dk_28 (dk_at dksX2_take_2 10 rfl rfl)
theorem dX2_take_58 : decode cX2_take 58 = .ok (.ireturn, 1) := dk_172 (dk_at dksX2_take_2 11 rfl rfl)
abbrev MX2_take : jjM := (yX2_take, cX2_take, 3, (Option.some Jvm.ClassFile.FieldType.int))
theorem npX2_take : yX2_take.cls ≠ "java/lang/invoke/MethodHandle" ∧ yX2_take.cls ≠ "java/lang/invoke/VarHandle" ∧ (parseMethodDescriptor yX2_take.desc).map (fun d => d.parameters.length) = some 1 := by decide +kernel
abbrev cX2_placeOf : ByteArray := prog_17_method_12_code
def yX2_placeOf : MethodName := ⟨RX2, "placeOf", "(I)I"⟩
def dkwX2_placeOf_1 : List UInt8 := [172]
abbrev dktX2_placeOf_1 : List UInt8 := dkwX2_placeOf_1 ++ []
def dkwX2_placeOf_0 : List UInt8 := [3, 61, 42, 42, 27, 8, 182, 0, 97, 28, 182, 0, 101, 27, 159, 0, 9, 132, 2, 1, 167, 255, 238, 28]
abbrev dktX2_placeOf_0 : List UInt8 := dkwX2_placeOf_0 ++ dktX2_placeOf_1
theorem dksX2_placeOf_0 : cX2_placeOf.data.toList.drop 0 = dktX2_placeOf_0 := by decide +kernel
theorem dksX2_placeOf_1 : cX2_placeOf.data.toList.drop 24 = dktX2_placeOf_1 := dk_seg dksX2_placeOf_0 24 rfl rfl
theorem dX2_placeOf_0 : decode cX2_placeOf 0 = .ok (.iconst 0, 1) := dk_3 (dk_at dksX2_placeOf_0 0 rfl rfl)
theorem dX2_placeOf_1 : decode cX2_placeOf 1 = .ok (.istore_n 2, 1) := dk_61 (dk_at dksX2_placeOf_0 1 rfl rfl)
theorem dX2_placeOf_2 : decode cX2_placeOf 2 = .ok (.aload_n 0, 1) := dk_42 (dk_at dksX2_placeOf_0 2 rfl rfl)
theorem dX2_placeOf_3 : decode cX2_placeOf 3 = .ok (.aload_n 0, 1) := dk_42 (dk_at dksX2_placeOf_0 3 rfl rfl)
theorem dX2_placeOf_4 : decode cX2_placeOf 4 = .ok (.iload_n 1, 1) := dk_27 (dk_at dksX2_placeOf_0 4 rfl rfl)
theorem dX2_placeOf_5 : decode cX2_placeOf 5 = .ok (.iconst 5, 1) := dk_8 (dk_at dksX2_placeOf_0 5 rfl rfl)
theorem dX2_placeOf_6 : decode cX2_placeOf 6 = .ok (.invokevirtual 97, 3) := dk_182 0 97 (dk_at dksX2_placeOf_0 6 rfl rfl)
theorem dX2_placeOf_9 : decode cX2_placeOf 9 = .ok (.iload_n 2, 1) := dk_28 (dk_at dksX2_placeOf_0 9 rfl rfl)
theorem dX2_placeOf_10 : decode cX2_placeOf 10 = .ok (.invokevirtual 101, 3) := dk_182 0 101 (dk_at dksX2_placeOf_0 10 rfl rfl)
theorem dX2_placeOf_13 : decode cX2_placeOf 13 = .ok (.iload_n 1, 1) := dk_27 (dk_at dksX2_placeOf_0 13 rfl rfl)
theorem dX2_placeOf_14 : decode cX2_placeOf 14 = .ok (.if_icmp .eq 9, 3) := dk_159 0 9 (dk_at dksX2_placeOf_0 14 rfl rfl)
theorem dX2_placeOf_17 : decode cX2_placeOf 17 = .ok (.iinc 2 1, 3) := dk_132 2 1 (dk_at dksX2_placeOf_0 17 rfl rfl)
theorem dX2_placeOf_20 : decode cX2_placeOf 20 = .ok (.goto (-18), 3) := dk_167 255 238 (dk_at dksX2_placeOf_0 20 rfl rfl)
theorem dX2_placeOf_23 : decode cX2_placeOf 23 = .ok (.iload_n 2, 1) := dk_28 (dk_at dksX2_placeOf_0 23 rfl rfl)
theorem dX2_placeOf_24 : decode cX2_placeOf 24 = .ok (.ireturn, 1) := dk_172 (dk_at dksX2_placeOf_1 0 rfl rfl)
abbrev MX2_placeOf : jjM := (yX2_placeOf, cX2_placeOf, 3, (Option.some Jvm.ClassFile.FieldType.int))
theorem npX2_placeOf : yX2_placeOf.cls ≠ "java/lang/invoke/MethodHandle" ∧ yX2_placeOf.cls ≠ "java/lang/invoke/VarHandle" ∧ (parseMethodDescriptor yX2_placeOf.desc).map (fun d => d.parameters.length) = some 1 := by decide +kernel
abbrev cX2_put : ByteArray := prog_17_method_84_code
def yX2_put : MethodName := ⟨RX2, "put", "(III)I"⟩
def dkwX2_put_3 : List UInt8 := [182, 1, 83, 42, 27, 28, 29, 182, 1, 101, 42, 180, 0, 7, 16, 13, 28, 96, 46, 172]
abbrev dktX2_put_3 : List UInt8 := dkwX2_put_3 ++ []
def dkwX2_put_2 : List UInt8 := [182, 1, 57, 42, 27, 182, 1, 40, 96, 42, 180, 0, 7, 16, 10, 28, 96, 46, 164, 0, 5, 2, 172, 42]
abbrev dktX2_put_2 : List UInt8 := dkwX2_put_2 ++ dktX2_put_3
def dkwX2_put_1 : List UInt8 := [153, 0, 20, 29, 3, 42, 180, 0, 7, 16, 13, 28, 96, 46, 184, 0, 89, 154, 0, 5, 2, 172, 42, 28]
abbrev dktX2_put_1 : List UInt8 := dkwX2_put_1 ++ dktX2_put_2
def dkwX2_put_0 : List UInt8 := [42, 27, 182, 0, 93, 153, 0, 37, 42, 27, 8, 182, 0, 97, 6, 161, 0, 27, 28, 184, 1, 54]
abbrev dktX2_put_0 : List UInt8 := dkwX2_put_0 ++ dktX2_put_1
theorem dksX2_put_0 : cX2_put.data.toList.drop 0 = dktX2_put_0 := by decide +kernel
theorem dksX2_put_1 : cX2_put.data.toList.drop 22 = dktX2_put_1 := dk_seg dksX2_put_0 22 rfl rfl
theorem dksX2_put_2 : cX2_put.data.toList.drop 46 = dktX2_put_2 := dk_seg dksX2_put_1 24 rfl rfl
theorem dksX2_put_3 : cX2_put.data.toList.drop 70 = dktX2_put_3 := dk_seg dksX2_put_2 24 rfl rfl
theorem dX2_put_0 : decode cX2_put 0 = .ok (.aload_n 0, 1) := dk_42 (dk_at dksX2_put_0 0 rfl rfl)
theorem dX2_put_1 : decode cX2_put 1 = .ok (.iload_n 1, 1) := dk_27 (dk_at dksX2_put_0 1 rfl rfl)
theorem dX2_put_2 : decode cX2_put 2 = .ok (.invokevirtual 93, 3) := dk_182 0 93 (dk_at dksX2_put_0 2 rfl rfl)
theorem dX2_put_5 : decode cX2_put 5 = .ok (.ifCond .eq 37, 3) := dk_153 0 37 (dk_at dksX2_put_0 5 rfl rfl)
theorem dX2_put_8 : decode cX2_put 8 = .ok (.aload_n 0, 1) := dk_42 (dk_at dksX2_put_0 8 rfl rfl)
theorem dX2_put_9 : decode cX2_put 9 = .ok (.iload_n 1, 1) := dk_27 (dk_at dksX2_put_0 9 rfl rfl)
theorem dX2_put_10 : decode cX2_put 10 = .ok (.iconst 5, 1) := dk_8 (dk_at dksX2_put_0 10 rfl rfl)
theorem dX2_put_11 : decode cX2_put 11 = .ok (.invokevirtual 97, 3) := dk_182 0 97 (dk_at dksX2_put_0 11 rfl rfl)
theorem dX2_put_14 : decode cX2_put 14 = .ok (.iconst 3, 1) := dk_6 (dk_at dksX2_put_0 14 rfl rfl)
theorem dX2_put_15 : decode cX2_put 15 = .ok (.if_icmp .lt 27, 3) := dk_161 0 27 (dk_at dksX2_put_0 15 rfl rfl)
theorem dX2_put_18 : decode cX2_put 18 = .ok (.iload_n 2, 1) := dk_28 (dk_at dksX2_put_0 18 rfl rfl)
theorem dX2_put_19 : decode cX2_put 19 = .ok (.invokestatic 310, 3) := dk_184 1 54 (dk_at dksX2_put_0 19 rfl rfl)
theorem dX2_put_22 : decode cX2_put 22 = .ok (.ifCond .eq 20, 3) := dk_153 0 20 (dk_at dksX2_put_1 0 rfl rfl)
theorem dX2_put_25 : decode cX2_put 25 = .ok (.iload_n 3, 1) := dk_29 (dk_at dksX2_put_1 3 rfl rfl)
theorem dX2_put_26 : decode cX2_put 26 = .ok (.iconst 0, 1) := dk_3 (dk_at dksX2_put_1 4 rfl rfl)
theorem dX2_put_27 : decode cX2_put 27 = .ok (.aload_n 0, 1) := dk_42 (dk_at dksX2_put_1 5 rfl rfl)
theorem dX2_put_28 : decode cX2_put 28 = .ok (.getfield 7, 3) := dk_180 0 7 (dk_at dksX2_put_1 6 rfl rfl)
theorem dX2_put_31 : decode cX2_put 31 = .ok (.bipush 13, 2) := dk_16 13 (dk_at dksX2_put_1 9 rfl rfl)
theorem dX2_put_33 : decode cX2_put 33 = .ok (.iload_n 2, 1) := dk_28 (dk_at dksX2_put_1 11 rfl rfl)
theorem dX2_put_34 : decode cX2_put 34 = .ok (.iadd, 1) := dk_96 (dk_at dksX2_put_1 12 rfl rfl)
theorem dX2_put_35 : decode cX2_put 35 = .ok (.iaload, 1) := dk_46 (dk_at dksX2_put_1 13 rfl rfl)
theorem dX2_put_36 : decode cX2_put 36 = .ok (.invokestatic 89, 3) := dk_184 0 89 (dk_at dksX2_put_1 14 rfl rfl)
theorem dX2_put_39 : decode cX2_put 39 = .ok (.ifCond .ne 5, 3) := dk_154 0 5 (dk_at dksX2_put_1 17 rfl rfl)
theorem dX2_put_42 : decode cX2_put 42 = .ok (.iconst (-1), 1) := dk_2 (dk_at dksX2_put_1 20 rfl rfl)
theorem dX2_put_43 : decode cX2_put 43 = .ok (.ireturn, 1) := dk_172 (dk_at dksX2_put_1 21 rfl rfl)
theorem dX2_put_44 : decode cX2_put 44 = .ok (.aload_n 0, 1) := dk_42 (dk_at dksX2_put_1 22 rfl rfl)
theorem dX2_put_45 : decode cX2_put 45 = .ok (.iload_n 2, 1) := dk_28 (dk_at dksX2_put_1 23 rfl rfl)
theorem dX2_put_46 : decode cX2_put 46 = .ok (.invokevirtual 313, 3) := dk_182 1 57 (dk_at dksX2_put_2 0 rfl rfl)
theorem dX2_put_49 : decode cX2_put 49 = .ok (.aload_n 0, 1) := dk_42 (dk_at dksX2_put_2 3 rfl rfl)
theorem dX2_put_50 : decode cX2_put 50 = .ok (.iload_n 1, 1) := dk_27 (dk_at dksX2_put_2 4 rfl rfl)
theorem dX2_put_51 : decode cX2_put 51 = .ok (.invokevirtual 296, 3) := dk_182 1 40 (dk_at dksX2_put_2 5 rfl rfl)
theorem dX2_put_54 : decode cX2_put 54 = .ok (.iadd, 1) := dk_96 (dk_at dksX2_put_2 8 rfl rfl)
theorem dX2_put_55 : decode cX2_put 55 = .ok (.aload_n 0, 1) := dk_42 (dk_at dksX2_put_2 9 rfl rfl)
theorem dX2_put_56 : decode cX2_put 56 = .ok (.getfield 7, 3) := dk_180 0 7 (dk_at dksX2_put_2 10 rfl rfl)
theorem dX2_put_59 : decode cX2_put 59 = .ok (.bipush 10, 2) := dk_16 10 (dk_at dksX2_put_2 13 rfl rfl)
theorem dX2_put_61 : decode cX2_put 61 = .ok (.iload_n 2, 1) := dk_28 (dk_at dksX2_put_2 15 rfl rfl)
theorem dX2_put_62 : decode cX2_put 62 = .ok (.iadd, 1) := dk_96 (dk_at dksX2_put_2 16 rfl rfl)
theorem dX2_put_63 : decode cX2_put 63 = .ok (.iaload, 1) := dk_46 (dk_at dksX2_put_2 17 rfl rfl)
theorem dX2_put_64 : decode cX2_put 64 = .ok (.if_icmp .le 5, 3) := dk_164 0 5 (dk_at dksX2_put_2 18 rfl rfl)
theorem dX2_put_67 : decode cX2_put 67 = .ok (.iconst (-1), 1) := dk_2 (dk_at dksX2_put_2 21 rfl rfl)
theorem dX2_put_68 : decode cX2_put 68 = .ok (.ireturn, 1) := dk_172 (dk_at dksX2_put_2 22 rfl rfl)
theorem dX2_put_69 : decode cX2_put 69 = .ok (.aload_n 0, 1) := dk_42 (dk_at dksX2_put_2 23 rfl rfl)
theorem dX2_put_70 : decode cX2_put 70 = .ok (.invokevirtual 339, 3) := dk_182 1 83 (dk_at dksX2_put_3 0 rfl rfl)
theorem dX2_put_73 : decode cX2_put 73 = .ok (.aload_n 0, 1) := dk_42 (dk_at dksX2_put_3 3 rfl rfl)
theorem dX2_put_74 : decode cX2_put 74 = .ok (.iload_n 1, 1) := dk_27 (dk_at dksX2_put_3 4 rfl rfl)
theorem dX2_put_75 : decode cX2_put 75 = .ok (.iload_n 2, 1) := dk_28 (dk_at dksX2_put_3 5 rfl rfl)
theorem dX2_put_76 : decode cX2_put 76 = .ok (.iload_n 3, 1) := dk_29 (dk_at dksX2_put_3 6 rfl rfl)
theorem dX2_put_77 : decode cX2_put 77 = .ok (.invokevirtual 357, 3) := dk_182 1 101 (dk_at dksX2_put_3 7 rfl rfl)
theorem dX2_put_80 : decode cX2_put 80 = .ok (.aload_n 0, 1) := dk_42 (dk_at dksX2_put_3 10 rfl rfl)
theorem dX2_put_81 : decode cX2_put 81 = .ok (.getfield 7, 3) := dk_180 0 7 (dk_at dksX2_put_3 11 rfl rfl)
theorem dX2_put_84 : decode cX2_put 84 = .ok (.bipush 13, 2) := dk_16 13 (dk_at dksX2_put_3 14 rfl rfl)
theorem dX2_put_86 : decode cX2_put 86 = .ok (.iload_n 2, 1) := dk_28 (dk_at dksX2_put_3 16 rfl rfl)
theorem dX2_put_87 : decode cX2_put 87 = .ok (.iadd, 1) := dk_96 (dk_at dksX2_put_3 17 rfl rfl)
theorem dX2_put_88 : decode cX2_put 88 = .ok (.iaload, 1) := dk_46 (dk_at dksX2_put_3 18 rfl rfl)
theorem dX2_put_89 : decode cX2_put 89 = .ok (.ireturn, 1) := dk_172 (dk_at dksX2_put_3 19 rfl rfl)
abbrev MX2_put : jjM := (yX2_put, cX2_put, 4, (Option.some Jvm.ClassFile.FieldType.int))
theorem npX2_put : yX2_put.cls ≠ "java/lang/invoke/MethodHandle" ∧ yX2_put.cls ≠ "java/lang/invoke/VarHandle" ∧ (parseMethodDescriptor yX2_put.desc).map (fun d => d.parameters.length) = some 3 := by decide +kernel
abbrev cX2_setAt : ByteArray := prog_17_method_73_code
def yX2_setAt : MethodName := ⟨RX2, "setAt", "(III)V"⟩
def dkwX2_setAt_2 : List UInt8 := [180, 0, 7, 16, 13, 28, 96, 92, 46, 4, 96, 79, 42, 27, 8, 28, 182, 0, 104, 177]
abbrev dktX2_setAt_2 : List UInt8 := dkwX2_setAt_2 ++ []
def dkwX2_setAt_1 : List UInt8 := [21, 4, 4, 100, 182, 0, 101, 182, 1, 60, 132, 4, 255, 167, 255, 231, 42, 28, 29, 27, 182, 1, 60, 42]
abbrev dktX2_setAt_1 : List UInt8 := dkwX2_setAt_1 ++ dktX2_setAt_2
def dkwX2_setAt_0 : List UInt8 := [42, 180, 0, 7, 16, 13, 28, 96, 46, 54, 4, 21, 4, 29, 164, 0, 25, 42, 28, 21, 4, 42, 28]
abbrev dktX2_setAt_0 : List UInt8 := dkwX2_setAt_0 ++ dktX2_setAt_1
theorem dksX2_setAt_0 : cX2_setAt.data.toList.drop 0 = dktX2_setAt_0 := by decide +kernel
theorem dksX2_setAt_1 : cX2_setAt.data.toList.drop 23 = dktX2_setAt_1 := dk_seg dksX2_setAt_0 23 rfl rfl
theorem dksX2_setAt_2 : cX2_setAt.data.toList.drop 47 = dktX2_setAt_2 := dk_seg dksX2_setAt_1 24 rfl rfl
theorem dX2_setAt_0 : decode cX2_setAt 0 = .ok (.aload_n 0, 1) := dk_42 (dk_at dksX2_setAt_0 0 rfl rfl)
theorem dX2_setAt_1 : decode cX2_setAt 1 = .ok (.getfield 7, 3) := dk_180 0 7 (dk_at dksX2_setAt_0 1 rfl rfl)
theorem dX2_setAt_4 : decode cX2_setAt 4 = .ok (.bipush 13, 2) := dk_16 13 (dk_at dksX2_setAt_0 4 rfl rfl)
theorem dX2_setAt_6 : decode cX2_setAt 6 = .ok (.iload_n 2, 1) := dk_28 (dk_at dksX2_setAt_0 6 rfl rfl)
theorem dX2_setAt_7 : decode cX2_setAt 7 = .ok (.iadd, 1) := dk_96 (dk_at dksX2_setAt_0 7 rfl rfl)
theorem dX2_setAt_8 : decode cX2_setAt 8 = .ok (.iaload, 1) := dk_46 (dk_at dksX2_setAt_0 8 rfl rfl)
theorem dX2_setAt_9 : decode cX2_setAt 9 = .ok (.istore 4, 2) := dk_54 4 (dk_at dksX2_setAt_0 9 rfl rfl)
theorem dX2_setAt_11 : decode cX2_setAt 11 = .ok (.iload 4, 2) := dk_21 4 (dk_at dksX2_setAt_0 11 rfl rfl)
theorem dX2_setAt_13 : decode cX2_setAt 13 = .ok (.iload_n 3, 1) := dk_29 (dk_at dksX2_setAt_0 13 rfl rfl)
theorem dX2_setAt_14 : decode cX2_setAt 14 = .ok (.if_icmp .le 25, 3) := dk_164 0 25 (dk_at dksX2_setAt_0 14 rfl rfl)
theorem dX2_setAt_17 : decode cX2_setAt 17 = .ok (.aload_n 0, 1) := dk_42 (dk_at dksX2_setAt_0 17 rfl rfl)
theorem dX2_setAt_18 : decode cX2_setAt 18 = .ok (.iload_n 2, 1) := dk_28 (dk_at dksX2_setAt_0 18 rfl rfl)
theorem dX2_setAt_19 : decode cX2_setAt 19 = .ok (.iload 4, 2) := dk_21 4 (dk_at dksX2_setAt_0 19 rfl rfl)
theorem dX2_setAt_21 : decode cX2_setAt 21 = .ok (.aload_n 0, 1) := dk_42 (dk_at dksX2_setAt_0 21 rfl rfl)
theorem dX2_setAt_22 : decode cX2_setAt 22 = .ok (.iload_n 2, 1) := dk_28 (dk_at dksX2_setAt_0 22 rfl rfl)
theorem dX2_setAt_23 : decode cX2_setAt 23 = .ok (.iload 4, 2) := dk_21 4 (dk_at dksX2_setAt_1 0 rfl rfl)
theorem dX2_setAt_25 : decode cX2_setAt 25 = .ok (.iconst 1, 1) := dk_4 (dk_at dksX2_setAt_1 2 rfl rfl)
theorem dX2_setAt_26 : decode cX2_setAt 26 = .ok (.isub, 1) := dk_100 (dk_at dksX2_setAt_1 3 rfl rfl)
theorem dX2_setAt_27 : decode cX2_setAt 27 = .ok (.invokevirtual 101, 3) := dk_182 0 101 (dk_at dksX2_setAt_1 4 rfl rfl)
theorem dX2_setAt_30 : decode cX2_setAt 30 = .ok (.invokevirtual 316, 3) := dk_182 1 60 (dk_at dksX2_setAt_1 7 rfl rfl)
theorem dX2_setAt_33 : decode cX2_setAt 33 = .ok (.iinc 4 (-1), 3) := dk_132 4 255 (dk_at dksX2_setAt_1 10 rfl rfl)
theorem dX2_setAt_36 : decode cX2_setAt 36 = .ok (.goto (-25), 3) := dk_167 255 231 (dk_at dksX2_setAt_1 13 rfl rfl)
theorem dX2_setAt_39 : decode cX2_setAt 39 = .ok (.aload_n 0, 1) := dk_42 (dk_at dksX2_setAt_1 16 rfl rfl)
theorem dX2_setAt_40 : decode cX2_setAt 40 = .ok (.iload_n 2, 1) := dk_28 (dk_at dksX2_setAt_1 17 rfl rfl)
theorem dX2_setAt_41 : decode cX2_setAt 41 = .ok (.iload_n 3, 1) := dk_29 (dk_at dksX2_setAt_1 18 rfl rfl)
theorem dX2_setAt_42 : decode cX2_setAt 42 = .ok (.iload_n 1, 1) := dk_27 (dk_at dksX2_setAt_1 19 rfl rfl)
theorem dX2_setAt_43 : decode cX2_setAt 43 = .ok (.invokevirtual 316, 3) := dk_182 1 60 (dk_at dksX2_setAt_1 20 rfl rfl)
theorem dX2_setAt_46 : decode cX2_setAt 46 = .ok (.aload_n 0, 1) := dk_42 (dk_at dksX2_setAt_1 23 rfl rfl)
theorem dX2_setAt_47 : decode cX2_setAt 47 = .ok (.getfield 7, 3) := dk_180 0 7 (dk_at dksX2_setAt_2 0 rfl rfl)
theorem dX2_setAt_50 : decode cX2_setAt 50 = .ok (.bipush 13, 2) := dk_16 13 (dk_at dksX2_setAt_2 3 rfl rfl)
theorem dX2_setAt_52 : decode cX2_setAt 52 = .ok (.iload_n 2, 1) := dk_28 (dk_at dksX2_setAt_2 5 rfl rfl)
theorem dX2_setAt_53 : decode cX2_setAt 53 = .ok (.iadd, 1) := dk_96 (dk_at dksX2_setAt_2 6 rfl rfl)
theorem dX2_setAt_54 : decode cX2_setAt 54 = .ok (.dup2, 1) := dk_92 (dk_at dksX2_setAt_2 7 rfl rfl)
theorem dX2_setAt_55 : decode cX2_setAt 55 = .ok (.iaload, 1) := dk_46 (dk_at dksX2_setAt_2 8 rfl rfl)
theorem dX2_setAt_56 : decode cX2_setAt 56 = .ok (.iconst 1, 1) := dk_4 (dk_at dksX2_setAt_2 9 rfl rfl)
theorem dX2_setAt_57 : decode cX2_setAt 57 = .ok (.iadd, 1) := dk_96 (dk_at dksX2_setAt_2 10 rfl rfl)
theorem dX2_setAt_58 : decode cX2_setAt 58 = .ok (.iastore, 1) := dk_79 (dk_at dksX2_setAt_2 11 rfl rfl)
theorem dX2_setAt_59 : decode cX2_setAt 59 = .ok (.aload_n 0, 1) := dk_42 (dk_at dksX2_setAt_2 12 rfl rfl)
theorem dX2_setAt_60 : decode cX2_setAt 60 = .ok (.iload_n 1, 1) := dk_27 (dk_at dksX2_setAt_2 13 rfl rfl)
theorem dX2_setAt_61 : decode cX2_setAt 61 = .ok (.iconst 5, 1) := dk_8 (dk_at dksX2_setAt_2 14 rfl rfl)
theorem dX2_setAt_62 : decode cX2_setAt 62 = .ok (.iload_n 2, 1) := dk_28 (dk_at dksX2_setAt_2 15 rfl rfl)
theorem dX2_setAt_63 : decode cX2_setAt 63 = .ok (.invokevirtual 104, 3) := dk_182 0 104 (dk_at dksX2_setAt_2 16 rfl rfl)
theorem dX2_setAt_66 : decode cX2_setAt 66 = .ok (.return_, 1) := dk_177 (dk_at dksX2_setAt_2 19 rfl rfl)
abbrev MX2_setAt : jjM := (yX2_setAt, cX2_setAt, 5, (Option.none : Option Jvm.ClassFile.FieldType))
theorem npX2_setAt : yX2_setAt.cls ≠ "java/lang/invoke/MethodHandle" ∧ yX2_setAt.cls ≠ "java/lang/invoke/VarHandle" ∧ (parseMethodDescriptor yX2_setAt.desc).map (fun d => d.parameters.length) = some 3 := by decide +kernel
abbrev cX2_wet : ByteArray := prog_17_method_85_code
def yX2_wet : MethodName := ⟨RX2, "wet", "(Z)I"⟩
def dkwX2_wet_2 : List UInt8 := [167, 0, 4, 3, 172]
abbrev dktX2_wet_2 : List UInt8 := dkwX2_wet_2 ++ []
def dkwX2_wet_1 : List UInt8 := [42, 180, 0, 7, 5, 27, 153, 0, 7, 4, 167, 0, 4, 3, 79, 27, 153, 0, 10, 42, 182, 1, 92]
abbrev dktX2_wet_1 : List UInt8 := dkwX2_wet_1 ++ dktX2_wet_2
def dkwX2_wet_0 : List UInt8 := [42, 180, 0, 7, 5, 46, 27, 153, 0, 7, 4, 167, 0, 4, 3, 160, 0, 5, 2, 172, 42, 182, 1, 83]
abbrev dktX2_wet_0 : List UInt8 := dkwX2_wet_0 ++ dktX2_wet_1
theorem dksX2_wet_0 : cX2_wet.data.toList.drop 0 = dktX2_wet_0 := by decide +kernel
theorem dksX2_wet_1 : cX2_wet.data.toList.drop 24 = dktX2_wet_1 := dk_seg dksX2_wet_0 24 rfl rfl
theorem dksX2_wet_2 : cX2_wet.data.toList.drop 47 = dktX2_wet_2 := dk_seg dksX2_wet_1 23 rfl rfl
theorem dX2_wet_0 : decode cX2_wet 0 = .ok (.aload_n 0, 1) := dk_42 (dk_at dksX2_wet_0 0 rfl rfl)
theorem dX2_wet_1 : decode cX2_wet 1 = .ok (.getfield 7, 3) := dk_180 0 7 (dk_at dksX2_wet_0 1 rfl rfl)
theorem dX2_wet_4 : decode cX2_wet 4 = .ok (.iconst 2, 1) := dk_5 (dk_at dksX2_wet_0 4 rfl rfl)
theorem dX2_wet_5 : decode cX2_wet 5 = .ok (.iaload, 1) := dk_46 (dk_at dksX2_wet_0 5 rfl rfl)
theorem dX2_wet_6 : decode cX2_wet 6 = .ok (.iload_n 1, 1) := dk_27 (dk_at dksX2_wet_0 6 rfl rfl)
theorem dX2_wet_7 : decode cX2_wet 7 = .ok (.ifCond .eq 7, 3) := dk_153 0 7 (dk_at dksX2_wet_0 7 rfl rfl)
theorem dX2_wet_10 : decode cX2_wet 10 = .ok (.iconst 1, 1) := dk_4 (dk_at dksX2_wet_0 10 rfl rfl)
theorem dX2_wet_11 : decode cX2_wet 11 = .ok (.goto 4, 3) := dk_167 0 4 (dk_at dksX2_wet_0 11 rfl rfl)
theorem dX2_wet_14 : decode cX2_wet 14 = .ok (.iconst 0, 1) := dk_3 (dk_at dksX2_wet_0 14 rfl rfl)
theorem dX2_wet_15 : decode cX2_wet 15 = .ok (.if_icmp .ne 5, 3) := dk_160 0 5 (dk_at dksX2_wet_0 15 rfl rfl)
theorem dX2_wet_18 : decode cX2_wet 18 = .ok (.iconst (-1), 1) := dk_2 (dk_at dksX2_wet_0 18 rfl rfl)
theorem dX2_wet_19 : decode cX2_wet 19 = .ok (.ireturn, 1) := dk_172 (dk_at dksX2_wet_0 19 rfl rfl)
theorem dX2_wet_20 : decode cX2_wet 20 = .ok (.aload_n 0, 1) := dk_42 (dk_at dksX2_wet_0 20 rfl rfl)
theorem dX2_wet_21 : decode cX2_wet 21 = .ok (.invokevirtual 339, 3) := dk_182 1 83 (dk_at dksX2_wet_0 21 rfl rfl)
theorem dX2_wet_24 : decode cX2_wet 24 = .ok (.aload_n 0, 1) := dk_42 (dk_at dksX2_wet_1 0 rfl rfl)
theorem dX2_wet_25 : decode cX2_wet 25 = .ok (.getfield 7, 3) := dk_180 0 7 (dk_at dksX2_wet_1 1 rfl rfl)
theorem dX2_wet_28 : decode cX2_wet 28 = .ok (.iconst 2, 1) := dk_5 (dk_at dksX2_wet_1 4 rfl rfl)
theorem dX2_wet_29 : decode cX2_wet 29 = .ok (.iload_n 1, 1) := dk_27 (dk_at dksX2_wet_1 5 rfl rfl)
theorem dX2_wet_30 : decode cX2_wet 30 = .ok (.ifCond .eq 7, 3) := dk_153 0 7 (dk_at dksX2_wet_1 6 rfl rfl)
theorem dX2_wet_33 : decode cX2_wet 33 = .ok (.iconst 1, 1) := dk_4 (dk_at dksX2_wet_1 9 rfl rfl)
theorem dX2_wet_34 : decode cX2_wet 34 = .ok (.goto 4, 3) := dk_167 0 4 (dk_at dksX2_wet_1 10 rfl rfl)
theorem dX2_wet_37 : decode cX2_wet 37 = .ok (.iconst 0, 1) := dk_3 (dk_at dksX2_wet_1 13 rfl rfl)
theorem dX2_wet_38 : decode cX2_wet 38 = .ok (.iastore, 1) := dk_79 (dk_at dksX2_wet_1 14 rfl rfl)
theorem dX2_wet_39 : decode cX2_wet 39 = .ok (.iload_n 1, 1) := dk_27 (dk_at dksX2_wet_1 15 rfl rfl)
theorem dX2_wet_40 : decode cX2_wet 40 = .ok (.ifCond .eq 10, 3) := dk_153 0 10 (dk_at dksX2_wet_1 16 rfl rfl)
theorem dX2_wet_43 : decode cX2_wet 43 = .ok (.aload_n 0, 1) := dk_42 (dk_at dksX2_wet_1 19 rfl rfl)
theorem dX2_wet_44 : decode cX2_wet 44 = .ok (.invokevirtual 348, 3) := dk_182 1 92 (dk_at dksX2_wet_1 20 rfl rfl)
theorem dX2_wet_47 : decode cX2_wet 47 = .ok (.goto 4, 3) := dk_167 0 4 (dk_at dksX2_wet_2 0 rfl rfl)
theorem dX2_wet_50 : decode cX2_wet 50 = .ok (.iconst 0, 1) := dk_3 (dk_at dksX2_wet_2 3 rfl rfl)
theorem dX2_wet_51 : decode cX2_wet 51 = .ok (.ireturn, 1) := dk_172 (dk_at dksX2_wet_2 4 rfl rfl)
abbrev MX2_wet : jjM := (yX2_wet, cX2_wet, 2, (Option.some Jvm.ClassFile.FieldType.int))
theorem npX2_wet : yX2_wet.cls ≠ "java/lang/invoke/MethodHandle" ∧ yX2_wet.cls ≠ "java/lang/invoke/VarHandle" ∧ (parseMethodDescriptor yX2_wet.desc).map (fun d => d.parameters.length) = some 1 := by decide +kernel
abbrev cX2_played : ByteArray := prog_17_method_87_code
def yX2_played : MethodName := ⟨RX2, "played", "(I)I"⟩
def dkwX2_played_2 : List UInt8 := [182, 1, 120, 154, 0, 5, 28, 172, 132, 2, 1, 167, 255, 219, 2, 172]
abbrev dktX2_played_2 : List UInt8 := dkwX2_played_2 ++ []
def dkwX2_played_1 : List UInt8 := [180, 0, 16, 17, 2, 193, 27, 104, 46, 162, 0, 29, 42, 17, 2, 193, 27, 104, 4, 96, 7, 28, 104, 96]
abbrev dktX2_played_1 : List UInt8 := dkwX2_played_1 ++ dktX2_played_2
def dkwX2_played_0 : List UInt8 := [27, 3, 42, 180, 0, 7, 8, 46, 4, 100, 184, 0, 89, 154, 0, 6, 16, 254, 172, 3, 61, 28, 42]
abbrev dktX2_played_0 : List UInt8 := dkwX2_played_0 ++ dktX2_played_1
theorem dksX2_played_0 : cX2_played.data.toList.drop 0 = dktX2_played_0 := by decide +kernel
theorem dksX2_played_1 : cX2_played.data.toList.drop 23 = dktX2_played_1 := dk_seg dksX2_played_0 23 rfl rfl
theorem dksX2_played_2 : cX2_played.data.toList.drop 47 = dktX2_played_2 := dk_seg dksX2_played_1 24 rfl rfl
theorem dX2_played_0 : decode cX2_played 0 = .ok (.iload_n 1, 1) := dk_27 (dk_at dksX2_played_0 0 rfl rfl)
theorem dX2_played_1 : decode cX2_played 1 = .ok (.iconst 0, 1) := dk_3 (dk_at dksX2_played_0 1 rfl rfl)
theorem dX2_played_2 : decode cX2_played 2 = .ok (.aload_n 0, 1) := dk_42 (dk_at dksX2_played_0 2 rfl rfl)
theorem dX2_played_3 : decode cX2_played 3 = .ok (.getfield 7, 3) := dk_180 0 7 (dk_at dksX2_played_0 3 rfl rfl)
theorem dX2_played_6 : decode cX2_played 6 = .ok (.iconst 5, 1) := dk_8 (dk_at dksX2_played_0 6 rfl rfl)
theorem dX2_played_7 : decode cX2_played 7 = .ok (.iaload, 1) := dk_46 (dk_at dksX2_played_0 7 rfl rfl)
theorem dX2_played_8 : decode cX2_played 8 = .ok (.iconst 1, 1) := dk_4 (dk_at dksX2_played_0 8 rfl rfl)
theorem dX2_played_9 : decode cX2_played 9 = .ok (.isub, 1) := dk_100 (dk_at dksX2_played_0 9 rfl rfl)
theorem dX2_played_10 : decode cX2_played 10 = .ok (.invokestatic 89, 3) := dk_184 0 89 (dk_at dksX2_played_0 10 rfl rfl)
theorem dX2_played_13 : decode cX2_played 13 = .ok (.ifCond .ne 6, 3) := dk_154 0 6 (dk_at dksX2_played_0 13 rfl rfl)
theorem dX2_played_16 : decode cX2_played 16 = .ok (.bipush (-2), 2) := dk_16 254 (dk_at dksX2_played_0 16 rfl rfl)
theorem dX2_played_18 : decode cX2_played 18 = .ok (.ireturn, 1) := dk_172 (dk_at dksX2_played_0 18 rfl rfl)
theorem dX2_played_19 : decode cX2_played 19 = .ok (.iconst 0, 1) := dk_3 (dk_at dksX2_played_0 19 rfl rfl)
theorem dX2_played_20 : decode cX2_played 20 = .ok (.istore_n 2, 1) := dk_61 (dk_at dksX2_played_0 20 rfl rfl)
theorem dX2_played_21 : decode cX2_played 21 = .ok (.iload_n 2, 1) := dk_28 (dk_at dksX2_played_0 21 rfl rfl)
theorem dX2_played_22 : decode cX2_played 22 = .ok (.aload_n 0, 1) := dk_42 (dk_at dksX2_played_0 22 rfl rfl)
theorem dX2_played_23 : decode cX2_played 23 = .ok (.getfield 16, 3) := dk_180 0 16 (dk_at dksX2_played_1 0 rfl rfl)
theorem dX2_played_26 : decode cX2_played 26 = .ok (.sipush 705, 3) := dk_17 2 193 (dk_at dksX2_played_1 3 rfl rfl)
theorem dX2_played_29 : decode cX2_played 29 = .ok (.iload_n 1, 1) := dk_27 (dk_at dksX2_played_1 6 rfl rfl)
theorem dX2_played_30 : decode cX2_played 30 = .ok (.imul, 1) := dk_104 (dk_at dksX2_played_1 7 rfl rfl)
theorem dX2_played_31 : decode cX2_played 31 = .ok (.iaload, 1) := dk_46 (dk_at dksX2_played_1 8 rfl rfl)
theorem dX2_played_32 : decode cX2_played 32 = .ok (.if_icmp .ge 29, 3) := dk_162 0 29 (dk_at dksX2_played_1 9 rfl rfl)
theorem dX2_played_35 : decode cX2_played 35 = .ok (.aload_n 0, 1) := dk_42 (dk_at dksX2_played_1 12 rfl rfl)
theorem dX2_played_36 : decode cX2_played 36 = .ok (.sipush 705, 3) := dk_17 2 193 (dk_at dksX2_played_1 13 rfl rfl)
theorem dX2_played_39 : decode cX2_played 39 = .ok (.iload_n 1, 1) := dk_27 (dk_at dksX2_played_1 16 rfl rfl)
theorem dX2_played_40 : decode cX2_played 40 = .ok (.imul, 1) := dk_104 (dk_at dksX2_played_1 17 rfl rfl)
theorem dX2_played_41 : decode cX2_played 41 = .ok (.iconst 1, 1) := dk_4 (dk_at dksX2_played_1 18 rfl rfl)
theorem dX2_played_42 : decode cX2_played 42 = .ok (.iadd, 1) := dk_96 (dk_at dksX2_played_1 19 rfl rfl)
theorem dX2_played_43 : decode cX2_played 43 = .ok (.iconst 4, 1) := dk_7 (dk_at dksX2_played_1 20 rfl rfl)
theorem dX2_played_44 : decode cX2_played 44 = .ok (.iload_n 2, 1) := dk_28 (dk_at dksX2_played_1 21 rfl rfl)
theorem dX2_played_45 : decode cX2_played 45 = .ok (.imul, 1) := dk_104 (dk_at dksX2_played_1 22 rfl rfl)
theorem dX2_played_46 : decode cX2_played 46 = .ok (.iadd, 1) := dk_96 (dk_at dksX2_played_1 23 rfl rfl)
theorem dX2_played_47 : decode cX2_played 47 = .ok (.invokevirtual 376, 3) := dk_182 1 120 (dk_at dksX2_played_2 0 rfl rfl)
theorem dX2_played_50 : decode cX2_played 50 = .ok (.ifCond .ne 5, 3) := dk_154 0 5 (dk_at dksX2_played_2 3 rfl rfl)
theorem dX2_played_53 : decode cX2_played 53 = .ok (.iload_n 2, 1) := dk_28 (dk_at dksX2_played_2 6 rfl rfl)
theorem dX2_played_54 : decode cX2_played 54 = .ok (.ireturn, 1) := dk_172 (dk_at dksX2_played_2 7 rfl rfl)
theorem dX2_played_55 : decode cX2_played 55 = .ok (.iinc 2 1, 3) := dk_132 2 1 (dk_at dksX2_played_2 8 rfl rfl)
theorem dX2_played_58 : decode cX2_played 58 = .ok (.goto (-37), 3) := dk_167 255 219 (dk_at dksX2_played_2 11 rfl rfl)
theorem dX2_played_61 : decode cX2_played 61 = .ok (.iconst (-1), 1) := dk_2 (dk_at dksX2_played_2 14 rfl rfl)
theorem dX2_played_62 : decode cX2_played 62 = .ok (.ireturn, 1) := dk_172 (dk_at dksX2_played_2 15 rfl rfl)
abbrev MX2_played : jjM := (yX2_played, cX2_played, 3, (Option.some Jvm.ClassFile.FieldType.int))
theorem npX2_played : yX2_played.cls ≠ "java/lang/invoke/MethodHandle" ∧ yX2_played.cls ≠ "java/lang/invoke/VarHandle" ∧ (parseMethodDescriptor yX2_played.desc).map (fun d => d.parameters.length) = some 1 := by decide +kernel
abbrev cX2_isPlayed : ByteArray := prog_17_method_86_code
def yX2_isPlayed : MethodName := ⟨RX2, "isPlayed", "(I)Z"⟩
def dkwX2_isPlayed_7 : List UInt8 := [167, 0, 4, 3, 172, 42, 3, 182, 1, 116, 155, 0, 7, 4, 167, 0, 4, 3, 172, 4, 172]
abbrev dktX2_isPlayed_7 : List UInt8 := dkwX2_isPlayed_7 ++ []
def dkwX2_isPlayed_6 : List UInt8 := [6, 96, 46, 182, 1, 113, 155, 0, 7, 4, 167, 0, 4, 3, 172, 42, 4, 182, 1, 116, 155, 0, 7, 4]
abbrev dktX2_isPlayed_6 : List UInt8 := dkwX2_isPlayed_6 ++ dktX2_isPlayed_7
def dkwX2_isPlayed_5 : List UInt8 := [3, 172, 42, 42, 180, 0, 16, 27, 4, 96, 46, 42, 180, 0, 16, 27, 5, 96, 46, 42, 180, 0, 16, 27]
abbrev dktX2_isPlayed_5 : List UInt8 := dkwX2_isPlayed_5 ++ dktX2_isPlayed_6
def dkwX2_isPlayed_4 : List UInt8 := [167, 0, 4, 3, 172, 42, 42, 180, 0, 16, 27, 4, 96, 46, 182, 1, 110, 155, 0, 7, 4, 167, 0, 4]
abbrev dktX2_isPlayed_4 : List UInt8 := dkwX2_isPlayed_4 ++ dktX2_isPlayed_5
def dkwX2_isPlayed_3 : List UInt8 := [180, 0, 16, 27, 4, 96, 46, 42, 180, 0, 16, 27, 5, 96, 46, 182, 1, 107, 155, 0, 7, 4]
abbrev dktX2_isPlayed_3 : List UInt8 := dkwX2_isPlayed_3 ++ dktX2_isPlayed_4
def dkwX2_isPlayed_2 : List UInt8 := [42, 42, 180, 0, 16, 27, 4, 96, 46, 182, 1, 104, 155, 0, 7, 4, 167, 0, 4, 3, 172, 42, 42]
abbrev dktX2_isPlayed_2 : List UInt8 := dkwX2_isPlayed_2 ++ dktX2_isPlayed_3
def dkwX2_isPlayed_1 : List UInt8 := [170, 0, 0, 0, 0, 174, 0, 0, 0, 4, 0, 0, 0, 9, 0, 0, 0, 38, 0, 0, 0, 59, 0, 0, 0, 88, 0, 0, 0, 109, 0, 0, 0, 146, 0, 0, 0, 160]
abbrev dktX2_isPlayed_1 : List UInt8 := dkwX2_isPlayed_1 ++ dktX2_isPlayed_2
def dkwX2_isPlayed_0 : List UInt8 := [42, 180, 0, 16, 27, 46]
abbrev dktX2_isPlayed_0 : List UInt8 := dkwX2_isPlayed_0 ++ dktX2_isPlayed_1
theorem dksX2_isPlayed_0 : cX2_isPlayed.data.toList.drop 0 = dktX2_isPlayed_0 := by decide +kernel
theorem dksX2_isPlayed_1 : cX2_isPlayed.data.toList.drop 6 = dktX2_isPlayed_1 := dk_seg dksX2_isPlayed_0 6 rfl rfl
theorem dksX2_isPlayed_2 : cX2_isPlayed.data.toList.drop 44 = dktX2_isPlayed_2 := dk_seg dksX2_isPlayed_1 38 rfl rfl
theorem dksX2_isPlayed_3 : cX2_isPlayed.data.toList.drop 67 = dktX2_isPlayed_3 := dk_seg dksX2_isPlayed_2 23 rfl rfl
theorem dksX2_isPlayed_4 : cX2_isPlayed.data.toList.drop 89 = dktX2_isPlayed_4 := dk_seg dksX2_isPlayed_3 22 rfl rfl
theorem dksX2_isPlayed_5 : cX2_isPlayed.data.toList.drop 113 = dktX2_isPlayed_5 := dk_seg dksX2_isPlayed_4 24 rfl rfl
theorem dksX2_isPlayed_6 : cX2_isPlayed.data.toList.drop 137 = dktX2_isPlayed_6 := dk_seg dksX2_isPlayed_5 24 rfl rfl
theorem dksX2_isPlayed_7 : cX2_isPlayed.data.toList.drop 161 = dktX2_isPlayed_7 := dk_seg dksX2_isPlayed_6 24 rfl rfl
theorem dX2_isPlayed_0 : decode cX2_isPlayed 0 = .ok (.aload_n 0, 1) := dk_42 (dk_at dksX2_isPlayed_0 0 rfl rfl)
theorem dX2_isPlayed_1 : decode cX2_isPlayed 1 = .ok (.getfield 16, 3) := dk_180 0 16 (dk_at dksX2_isPlayed_0 1 rfl rfl)
theorem dX2_isPlayed_4 : decode cX2_isPlayed 4 = .ok (.iload_n 1, 1) := dk_27 (dk_at dksX2_isPlayed_0 4 rfl rfl)
theorem dX2_isPlayed_5 : decode cX2_isPlayed 5 = .ok (.iaload, 1) := dk_46 (dk_at dksX2_isPlayed_0 5 rfl rfl)
theorem dX2_isPlayed_6 : decode cX2_isPlayed 6 = .ok (.tableswitch 174 4 9 #[38, 59, 88, 109, 146, 160], 38) := by decide +kernel
theorem dX2_isPlayed_44 : decode cX2_isPlayed 44 = .ok (.aload_n 0, 1) := dk_42 (dk_at dksX2_isPlayed_2 0 rfl rfl)
theorem dX2_isPlayed_45 : decode cX2_isPlayed 45 = .ok (.aload_n 0, 1) := dk_42 (dk_at dksX2_isPlayed_2 1 rfl rfl)
theorem dX2_isPlayed_46 : decode cX2_isPlayed 46 = .ok (.getfield 16, 3) := dk_180 0 16 (dk_at dksX2_isPlayed_2 2 rfl rfl)
theorem dX2_isPlayed_49 : decode cX2_isPlayed 49 = .ok (.iload_n 1, 1) := dk_27 (dk_at dksX2_isPlayed_2 5 rfl rfl)
theorem dX2_isPlayed_50 : decode cX2_isPlayed 50 = .ok (.iconst 1, 1) := dk_4 (dk_at dksX2_isPlayed_2 6 rfl rfl)
theorem dX2_isPlayed_51 : decode cX2_isPlayed 51 = .ok (.iadd, 1) := dk_96 (dk_at dksX2_isPlayed_2 7 rfl rfl)
theorem dX2_isPlayed_52 : decode cX2_isPlayed 52 = .ok (.iaload, 1) := dk_46 (dk_at dksX2_isPlayed_2 8 rfl rfl)
theorem dX2_isPlayed_53 : decode cX2_isPlayed 53 = .ok (.invokevirtual 360, 3) := dk_182 1 104 (dk_at dksX2_isPlayed_2 9 rfl rfl)
theorem dX2_isPlayed_56 : decode cX2_isPlayed 56 = .ok (.ifCond .lt 7, 3) := dk_155 0 7 (dk_at dksX2_isPlayed_2 12 rfl rfl)
theorem dX2_isPlayed_59 : decode cX2_isPlayed 59 = .ok (.iconst 1, 1) := dk_4 (dk_at dksX2_isPlayed_2 15 rfl rfl)
theorem dX2_isPlayed_60 : decode cX2_isPlayed 60 = .ok (.goto 4, 3) := dk_167 0 4 (dk_at dksX2_isPlayed_2 16 rfl rfl)
theorem dX2_isPlayed_63 : decode cX2_isPlayed 63 = .ok (.iconst 0, 1) := dk_3 (dk_at dksX2_isPlayed_2 19 rfl rfl)
theorem dX2_isPlayed_64 : decode cX2_isPlayed 64 = .ok (.ireturn, 1) := dk_172 (dk_at dksX2_isPlayed_2 20 rfl rfl)
theorem dX2_isPlayed_65 : decode cX2_isPlayed 65 = .ok (.aload_n 0, 1) := dk_42 (dk_at dksX2_isPlayed_2 21 rfl rfl)
theorem dX2_isPlayed_66 : decode cX2_isPlayed 66 = .ok (.aload_n 0, 1) := dk_42 (dk_at dksX2_isPlayed_2 22 rfl rfl)
theorem dX2_isPlayed_67 : decode cX2_isPlayed 67 = .ok (.getfield 16, 3) := dk_180 0 16 (dk_at dksX2_isPlayed_3 0 rfl rfl)
theorem dX2_isPlayed_70 : decode cX2_isPlayed 70 = .ok (.iload_n 1, 1) := dk_27 (dk_at dksX2_isPlayed_3 3 rfl rfl)
theorem dX2_isPlayed_71 : decode cX2_isPlayed 71 = .ok (.iconst 1, 1) := dk_4 (dk_at dksX2_isPlayed_3 4 rfl rfl)
theorem dX2_isPlayed_72 : decode cX2_isPlayed 72 = .ok (.iadd, 1) := dk_96 (dk_at dksX2_isPlayed_3 5 rfl rfl)
theorem dX2_isPlayed_73 : decode cX2_isPlayed 73 = .ok (.iaload, 1) := dk_46 (dk_at dksX2_isPlayed_3 6 rfl rfl)
theorem dX2_isPlayed_74 : decode cX2_isPlayed 74 = .ok (.aload_n 0, 1) := dk_42 (dk_at dksX2_isPlayed_3 7 rfl rfl)
theorem dX2_isPlayed_75 : decode cX2_isPlayed 75 = .ok (.getfield 16, 3) := dk_180 0 16 (dk_at dksX2_isPlayed_3 8 rfl rfl)
theorem dX2_isPlayed_78 : decode cX2_isPlayed 78 = .ok (.iload_n 1, 1) := dk_27 (dk_at dksX2_isPlayed_3 11 rfl rfl)
theorem dX2_isPlayed_79 : decode cX2_isPlayed 79 = .ok (.iconst 2, 1) := dk_5 (dk_at dksX2_isPlayed_3 12 rfl rfl)
theorem dX2_isPlayed_80 : decode cX2_isPlayed 80 = .ok (.iadd, 1) := dk_96 (dk_at dksX2_isPlayed_3 13 rfl rfl)
theorem dX2_isPlayed_81 : decode cX2_isPlayed 81 = .ok (.iaload, 1) := dk_46 (dk_at dksX2_isPlayed_3 14 rfl rfl)
theorem dX2_isPlayed_82 : decode cX2_isPlayed 82 = .ok (.invokevirtual 363, 3) := dk_182 1 107 (dk_at dksX2_isPlayed_3 15 rfl rfl)
theorem dX2_isPlayed_85 : decode cX2_isPlayed 85 = .ok (.ifCond .lt 7, 3) := dk_155 0 7 (dk_at dksX2_isPlayed_3 18 rfl rfl)
theorem dX2_isPlayed_88 : decode cX2_isPlayed 88 = .ok (.iconst 1, 1) := dk_4 (dk_at dksX2_isPlayed_3 21 rfl rfl)
theorem dX2_isPlayed_89 : decode cX2_isPlayed 89 = .ok (.goto 4, 3) := dk_167 0 4 (dk_at dksX2_isPlayed_4 0 rfl rfl)
theorem dX2_isPlayed_92 : decode cX2_isPlayed 92 = .ok (.iconst 0, 1) := dk_3 (dk_at dksX2_isPlayed_4 3 rfl rfl)
theorem dX2_isPlayed_93 : decode cX2_isPlayed 93 = .ok (.ireturn, 1) := dk_172 (dk_at dksX2_isPlayed_4 4 rfl rfl)
theorem dX2_isPlayed_94 : decode cX2_isPlayed 94 = .ok (.aload_n 0, 1) := dk_42 (dk_at dksX2_isPlayed_4 5 rfl rfl)
theorem dX2_isPlayed_95 : decode cX2_isPlayed 95 = .ok (.aload_n 0, 1) := dk_42 (dk_at dksX2_isPlayed_4 6 rfl rfl)
theorem dX2_isPlayed_96 : decode cX2_isPlayed 96 = .ok (.getfield 16, 3) := dk_180 0 16 (dk_at dksX2_isPlayed_4 7 rfl rfl)
theorem dX2_isPlayed_99 : decode cX2_isPlayed 99 = .ok (.iload_n 1, 1) := dk_27 (dk_at dksX2_isPlayed_4 10 rfl rfl)
theorem dX2_isPlayed_100 : decode cX2_isPlayed 100 = .ok (.iconst 1, 1) := dk_4 (dk_at dksX2_isPlayed_4 11 rfl rfl)
theorem dX2_isPlayed_101 : decode cX2_isPlayed 101 = .ok (.iadd, 1) := dk_96 (dk_at dksX2_isPlayed_4 12 rfl rfl)
theorem dX2_isPlayed_102 : decode cX2_isPlayed 102 = .ok (.iaload, 1) := dk_46 (dk_at dksX2_isPlayed_4 13 rfl rfl)
theorem dX2_isPlayed_103 : decode cX2_isPlayed 103 = .ok (.invokevirtual 366, 3) := dk_182 1 110 (dk_at dksX2_isPlayed_4 14 rfl rfl)
theorem dX2_isPlayed_106 : decode cX2_isPlayed 106 = .ok (.ifCond .lt 7, 3) := dk_155 0 7 (dk_at dksX2_isPlayed_4 17 rfl rfl)
theorem dX2_isPlayed_109 : decode cX2_isPlayed 109 = .ok (.iconst 1, 1) := dk_4 (dk_at dksX2_isPlayed_4 20 rfl rfl)
theorem dX2_isPlayed_110 : decode cX2_isPlayed 110 = .ok (.goto 4, 3) := dk_167 0 4 (dk_at dksX2_isPlayed_4 21 rfl rfl)
theorem dX2_isPlayed_113 : decode cX2_isPlayed 113 = .ok (.iconst 0, 1) := dk_3 (dk_at dksX2_isPlayed_5 0 rfl rfl)
theorem dX2_isPlayed_114 : decode cX2_isPlayed 114 = .ok (.ireturn, 1) := dk_172 (dk_at dksX2_isPlayed_5 1 rfl rfl)
theorem dX2_isPlayed_115 : decode cX2_isPlayed 115 = .ok (.aload_n 0, 1) := dk_42 (dk_at dksX2_isPlayed_5 2 rfl rfl)
theorem dX2_isPlayed_116 : decode cX2_isPlayed 116 = .ok (.aload_n 0, 1) := dk_42 (dk_at dksX2_isPlayed_5 3 rfl rfl)
theorem dX2_isPlayed_117 : decode cX2_isPlayed 117 = .ok (.getfield 16, 3) := dk_180 0 16 (dk_at dksX2_isPlayed_5 4 rfl rfl)
theorem dX2_isPlayed_120 : decode cX2_isPlayed 120 = .ok (.iload_n 1, 1) := dk_27 (dk_at dksX2_isPlayed_5 7 rfl rfl)
theorem dX2_isPlayed_121 : decode cX2_isPlayed 121 = .ok (.iconst 1, 1) := dk_4 (dk_at dksX2_isPlayed_5 8 rfl rfl)
theorem dX2_isPlayed_122 : decode cX2_isPlayed 122 = .ok (.iadd, 1) := dk_96 (dk_at dksX2_isPlayed_5 9 rfl rfl)
theorem dX2_isPlayed_123 : decode cX2_isPlayed 123 = .ok (.iaload, 1) := dk_46 (dk_at dksX2_isPlayed_5 10 rfl rfl)
theorem dX2_isPlayed_124 : decode cX2_isPlayed 124 = .ok (.aload_n 0, 1) := dk_42 (dk_at dksX2_isPlayed_5 11 rfl rfl)
theorem dX2_isPlayed_125 : decode cX2_isPlayed 125 = .ok (.getfield 16, 3) := dk_180 0 16 (dk_at dksX2_isPlayed_5 12 rfl rfl)
theorem dX2_isPlayed_128 : decode cX2_isPlayed 128 = .ok (.iload_n 1, 1) := dk_27 (dk_at dksX2_isPlayed_5 15 rfl rfl)
theorem dX2_isPlayed_129 : decode cX2_isPlayed 129 = .ok (.iconst 2, 1) := dk_5 (dk_at dksX2_isPlayed_5 16 rfl rfl)
theorem dX2_isPlayed_130 : decode cX2_isPlayed 130 = .ok (.iadd, 1) := dk_96 (dk_at dksX2_isPlayed_5 17 rfl rfl)
theorem dX2_isPlayed_131 : decode cX2_isPlayed 131 = .ok (.iaload, 1) := dk_46 (dk_at dksX2_isPlayed_5 18 rfl rfl)
theorem dX2_isPlayed_132 : decode cX2_isPlayed 132 = .ok (.aload_n 0, 1) := dk_42 (dk_at dksX2_isPlayed_5 19 rfl rfl)
theorem dX2_isPlayed_133 : decode cX2_isPlayed 133 = .ok (.getfield 16, 3) := dk_180 0 16 (dk_at dksX2_isPlayed_5 20 rfl rfl)
theorem dX2_isPlayed_136 : decode cX2_isPlayed 136 = .ok (.iload_n 1, 1) := dk_27 (dk_at dksX2_isPlayed_5 23 rfl rfl)
theorem dX2_isPlayed_137 : decode cX2_isPlayed 137 = .ok (.iconst 3, 1) := dk_6 (dk_at dksX2_isPlayed_6 0 rfl rfl)
theorem dX2_isPlayed_138 : decode cX2_isPlayed 138 = .ok (.iadd, 1) := dk_96 (dk_at dksX2_isPlayed_6 1 rfl rfl)
theorem dX2_isPlayed_139 : decode cX2_isPlayed 139 = .ok (.iaload, 1) := dk_46 (dk_at dksX2_isPlayed_6 2 rfl rfl)
theorem dX2_isPlayed_140 : decode cX2_isPlayed 140 = .ok (.invokevirtual 369, 3) := dk_182 1 113 (dk_at dksX2_isPlayed_6 3 rfl rfl)
theorem dX2_isPlayed_143 : decode cX2_isPlayed 143 = .ok (.ifCond .lt 7, 3) := dk_155 0 7 (dk_at dksX2_isPlayed_6 6 rfl rfl)
theorem dX2_isPlayed_146 : decode cX2_isPlayed 146 = .ok (.iconst 1, 1) := dk_4 (dk_at dksX2_isPlayed_6 9 rfl rfl)
theorem dX2_isPlayed_147 : decode cX2_isPlayed 147 = .ok (.goto 4, 3) := dk_167 0 4 (dk_at dksX2_isPlayed_6 10 rfl rfl)
theorem dX2_isPlayed_150 : decode cX2_isPlayed 150 = .ok (.iconst 0, 1) := dk_3 (dk_at dksX2_isPlayed_6 13 rfl rfl)
theorem dX2_isPlayed_151 : decode cX2_isPlayed 151 = .ok (.ireturn, 1) := dk_172 (dk_at dksX2_isPlayed_6 14 rfl rfl)
theorem dX2_isPlayed_152 : decode cX2_isPlayed 152 = .ok (.aload_n 0, 1) := dk_42 (dk_at dksX2_isPlayed_6 15 rfl rfl)
theorem dX2_isPlayed_153 : decode cX2_isPlayed 153 = .ok (.iconst 1, 1) := dk_4 (dk_at dksX2_isPlayed_6 16 rfl rfl)
theorem dX2_isPlayed_154 : decode cX2_isPlayed 154 = .ok (.invokevirtual 372, 3) := dk_182 1 116 (dk_at dksX2_isPlayed_6 17 rfl rfl)
theorem dX2_isPlayed_157 : decode cX2_isPlayed 157 = .ok (.ifCond .lt 7, 3) := dk_155 0 7 (dk_at dksX2_isPlayed_6 20 rfl rfl)
theorem dX2_isPlayed_160 : decode cX2_isPlayed 160 = .ok (.iconst 1, 1) := dk_4 (dk_at dksX2_isPlayed_6 23 rfl rfl)
theorem dX2_isPlayed_161 : decode cX2_isPlayed 161 = .ok (.goto 4, 3) := dk_167 0 4 (dk_at dksX2_isPlayed_7 0 rfl rfl)
theorem dX2_isPlayed_164 : decode cX2_isPlayed 164 = .ok (.iconst 0, 1) := dk_3 (dk_at dksX2_isPlayed_7 3 rfl rfl)
theorem dX2_isPlayed_165 : decode cX2_isPlayed 165 = .ok (.ireturn, 1) := dk_172 (dk_at dksX2_isPlayed_7 4 rfl rfl)
theorem dX2_isPlayed_166 : decode cX2_isPlayed 166 = .ok (.aload_n 0, 1) := dk_42 (dk_at dksX2_isPlayed_7 5 rfl rfl)
theorem dX2_isPlayed_167 : decode cX2_isPlayed 167 = .ok (.iconst 0, 1) := dk_3 (dk_at dksX2_isPlayed_7 6 rfl rfl)
theorem dX2_isPlayed_168 : decode cX2_isPlayed 168 = .ok (.invokevirtual 372, 3) := dk_182 1 116 (dk_at dksX2_isPlayed_7 7 rfl rfl)
theorem dX2_isPlayed_171 : decode cX2_isPlayed 171 = .ok (.ifCond .lt 7, 3) := dk_155 0 7 (dk_at dksX2_isPlayed_7 10 rfl rfl)
theorem dX2_isPlayed_174 : decode cX2_isPlayed 174 = .ok (.iconst 1, 1) := dk_4 (dk_at dksX2_isPlayed_7 13 rfl rfl)
theorem dX2_isPlayed_175 : decode cX2_isPlayed 175 = .ok (.goto 4, 3) := dk_167 0 4 (dk_at dksX2_isPlayed_7 14 rfl rfl)
theorem dX2_isPlayed_178 : decode cX2_isPlayed 178 = .ok (.iconst 0, 1) := dk_3 (dk_at dksX2_isPlayed_7 17 rfl rfl)
theorem dX2_isPlayed_179 : decode cX2_isPlayed 179 = .ok (.ireturn, 1) := dk_172 (dk_at dksX2_isPlayed_7 18 rfl rfl)
theorem dX2_isPlayed_180 : decode cX2_isPlayed 180 = .ok (.iconst 1, 1) := dk_4 (dk_at dksX2_isPlayed_7 19 rfl rfl)
theorem dX2_isPlayed_181 : decode cX2_isPlayed 181 = .ok (.ireturn, 1) := dk_172 (dk_at dksX2_isPlayed_7 20 rfl rfl)
abbrev MX2_isPlayed : jjM := (yX2_isPlayed, cX2_isPlayed, 2, (Option.some Jvm.ClassFile.FieldType.boolean))
theorem npX2_isPlayed : yX2_isPlayed.cls ≠ "java/lang/invoke/MethodHandle" ∧ yX2_isPlayed.cls ≠ "java/lang/invoke/VarHandle" ∧ (parseMethodDescriptor yX2_isPlayed.desc).map (fun d => d.parameters.length) = some 1 := by decide +kernel
abbrev cX2_year : ByteArray := prog_17_method_89_code
def yX2_year : MethodName := ⟨RX2, "year", "(II)I"⟩
def dkwX2_year_10 : List UInt8 := [180, 0, 7, 7, 29, 79, 21, 4, 172]
abbrev dktX2_year_10 : List UInt8 := dkwX2_year_10 ++ []
def dkwX2_year_9 : List UInt8 := [182, 1, 92, 167, 0, 4, 3, 96, 181, 1, 89, 29, 184, 1, 123, 62, 132, 5, 1, 167, 255, 77, 42]
abbrev dktX2_year_9 : List UInt8 := dkwX2_year_9 ++ dktX2_year_10
def dkwX2_year_8 : List UInt8 := [180, 0, 7, 5, 46, 100, 79, 42, 89, 180, 1, 89, 42, 180, 0, 7, 5, 46, 4, 160, 0, 10, 42]
abbrev dktX2_year_8 : List UInt8 := dkwX2_year_8 ++ dktX2_year_9
def dkwX2_year_7 : List UInt8 := [167, 0, 4, 3, 96, 54, 4, 29, 16, 10, 112, 6, 162, 0, 44, 42, 180, 0, 7, 5, 4, 42]
abbrev dktX2_year_7 : List UInt8 := dkwX2_year_7 ++ dktX2_year_8
def dkwX2_year_6 : List UInt8 := [182, 1, 77, 42, 21, 6, 21, 7, 21, 9, 182, 1, 101, 21, 4, 21, 9, 21, 8, 159, 0, 7, 4]
abbrev dktX2_year_6 : List UInt8 := dkwX2_year_6 ++ dktX2_year_7
def dkwX2_year_5 : List UInt8 := [180, 0, 7, 16, 13, 21, 7, 96, 46, 112, 54, 9, 29, 184, 1, 123, 62, 42, 21, 7, 21, 8, 21, 7]
abbrev dktX2_year_5 : List UInt8 := dkwX2_year_5 ++ dktX2_year_6
def dkwX2_year_4 : List UInt8 := [4, 164, 0, 76, 42, 21, 6, 8, 182, 0, 97, 54, 7, 42, 21, 6, 182, 1, 98, 54, 8, 29, 42]
abbrev dktX2_year_4 : List UInt8 := dkwX2_year_4 ++ dktX2_year_5
def dkwX2_year_3 : List UInt8 := [42, 21, 6, 182, 1, 126, 153, 0, 95, 42, 180, 0, 7, 16, 13, 42, 21, 6, 8, 182, 0, 97, 96, 46]
abbrev dktX2_year_3 : List UInt8 := dkwX2_year_3 ++ dktX2_year_4
def dkwX2_year_2 : List UInt8 := [3, 54, 5, 21, 5, 28, 162, 0, 179, 29, 42, 180, 0, 7, 3, 46, 112, 54, 6, 29, 184, 1, 123, 62]
abbrev dktX2_year_2 : List UInt8 := dkwX2_year_2 ++ dktX2_year_3
def dkwX2_year_1 : List UInt8 := [180, 0, 7, 3, 46, 154, 0, 5, 2, 172, 42, 182, 1, 83, 27, 7, 104, 16, 31, 96, 62, 3, 54, 4]
abbrev dktX2_year_1 : List UInt8 := dkwX2_year_1 ++ dktX2_year_2
def dkwX2_year_0 : List UInt8 := [27, 3, 17, 39, 15, 184, 0, 89, 153, 0, 22, 28, 4, 16, 40, 184, 0, 89, 153, 0, 12, 42]
abbrev dktX2_year_0 : List UInt8 := dkwX2_year_0 ++ dktX2_year_1
theorem dksX2_year_0 : cX2_year.data.toList.drop 0 = dktX2_year_0 := by decide +kernel
theorem dksX2_year_1 : cX2_year.data.toList.drop 22 = dktX2_year_1 := dk_seg dksX2_year_0 22 rfl rfl
theorem dksX2_year_2 : cX2_year.data.toList.drop 46 = dktX2_year_2 := dk_seg dksX2_year_1 24 rfl rfl
theorem dksX2_year_3 : cX2_year.data.toList.drop 70 = dktX2_year_3 := dk_seg dksX2_year_2 24 rfl rfl
theorem dksX2_year_4 : cX2_year.data.toList.drop 94 = dktX2_year_4 := dk_seg dksX2_year_3 24 rfl rfl
theorem dksX2_year_5 : cX2_year.data.toList.drop 117 = dktX2_year_5 := dk_seg dksX2_year_4 23 rfl rfl
theorem dksX2_year_6 : cX2_year.data.toList.drop 141 = dktX2_year_6 := dk_seg dksX2_year_5 24 rfl rfl
theorem dksX2_year_7 : cX2_year.data.toList.drop 164 = dktX2_year_7 := dk_seg dksX2_year_6 23 rfl rfl
theorem dksX2_year_8 : cX2_year.data.toList.drop 186 = dktX2_year_8 := dk_seg dksX2_year_7 22 rfl rfl
theorem dksX2_year_9 : cX2_year.data.toList.drop 209 = dktX2_year_9 := dk_seg dksX2_year_8 23 rfl rfl
theorem dksX2_year_10 : cX2_year.data.toList.drop 232 = dktX2_year_10 := dk_seg dksX2_year_9 23 rfl rfl
theorem dX2_year_0 : decode cX2_year 0 = .ok (.iload_n 1, 1) := dk_27 (dk_at dksX2_year_0 0 rfl rfl)
theorem dX2_year_1 : decode cX2_year 1 = .ok (.iconst 0, 1) := dk_3 (dk_at dksX2_year_0 1 rfl rfl)
theorem dX2_year_2 : decode cX2_year 2 = .ok (.sipush 9999, 3) := dk_17 39 15 (dk_at dksX2_year_0 2 rfl rfl)
theorem dX2_year_5 : decode cX2_year 5 = .ok (.invokestatic 89, 3) := dk_184 0 89 (dk_at dksX2_year_0 5 rfl rfl)
theorem dX2_year_8 : decode cX2_year 8 = .ok (.ifCond .eq 22, 3) := dk_153 0 22 (dk_at dksX2_year_0 8 rfl rfl)
theorem dX2_year_11 : decode cX2_year 11 = .ok (.iload_n 2, 1) := dk_28 (dk_at dksX2_year_0 11 rfl rfl)
theorem dX2_year_12 : decode cX2_year 12 = .ok (.iconst 1, 1) := dk_4 (dk_at dksX2_year_0 12 rfl rfl)
theorem dX2_year_13 : decode cX2_year 13 = .ok (.bipush 40, 2) := dk_16 40 (dk_at dksX2_year_0 13 rfl rfl)
theorem dX2_year_15 : decode cX2_year 15 = .ok (.invokestatic 89, 3) := dk_184 0 89 (dk_at dksX2_year_0 15 rfl rfl)
theorem dX2_year_18 : decode cX2_year 18 = .ok (.ifCond .eq 12, 3) := dk_153 0 12 (dk_at dksX2_year_0 18 rfl rfl)
theorem dX2_year_21 : decode cX2_year 21 = .ok (.aload_n 0, 1) := dk_42 (dk_at dksX2_year_0 21 rfl rfl)
theorem dX2_year_22 : decode cX2_year 22 = .ok (.getfield 7, 3) := dk_180 0 7 (dk_at dksX2_year_1 0 rfl rfl)
theorem dX2_year_25 : decode cX2_year 25 = .ok (.iconst 0, 1) := dk_3 (dk_at dksX2_year_1 3 rfl rfl)
theorem dX2_year_26 : decode cX2_year 26 = .ok (.iaload, 1) := dk_46 (dk_at dksX2_year_1 4 rfl rfl)
theorem dX2_year_27 : decode cX2_year 27 = .ok (.ifCond .ne 5, 3) := dk_154 0 5 (dk_at dksX2_year_1 5 rfl rfl)
theorem dX2_year_30 : decode cX2_year 30 = .ok (.iconst (-1), 1) := dk_2 (dk_at dksX2_year_1 8 rfl rfl)
theorem dX2_year_31 : decode cX2_year 31 = .ok (.ireturn, 1) := dk_172 (dk_at dksX2_year_1 9 rfl rfl)
theorem dX2_year_32 : decode cX2_year 32 = .ok (.aload_n 0, 1) := dk_42 (dk_at dksX2_year_1 10 rfl rfl)
theorem dX2_year_33 : decode cX2_year 33 = .ok (.invokevirtual 339, 3) := dk_182 1 83 (dk_at dksX2_year_1 11 rfl rfl)
theorem dX2_year_36 : decode cX2_year 36 = .ok (.iload_n 1, 1) := dk_27 (dk_at dksX2_year_1 14 rfl rfl)
theorem dX2_year_37 : decode cX2_year 37 = .ok (.iconst 4, 1) := dk_7 (dk_at dksX2_year_1 15 rfl rfl)
theorem dX2_year_38 : decode cX2_year 38 = .ok (.imul, 1) := dk_104 (dk_at dksX2_year_1 16 rfl rfl)
theorem dX2_year_39 : decode cX2_year 39 = .ok (.bipush 31, 2) := dk_16 31 (dk_at dksX2_year_1 17 rfl rfl)
theorem dX2_year_41 : decode cX2_year 41 = .ok (.iadd, 1) := dk_96 (dk_at dksX2_year_1 19 rfl rfl)
theorem dX2_year_42 : decode cX2_year 42 = .ok (.istore_n 3, 1) := dk_62 (dk_at dksX2_year_1 20 rfl rfl)
theorem dX2_year_43 : decode cX2_year 43 = .ok (.iconst 0, 1) := dk_3 (dk_at dksX2_year_1 21 rfl rfl)
theorem dX2_year_44 : decode cX2_year 44 = .ok (.istore 4, 2) := dk_54 4 (dk_at dksX2_year_1 22 rfl rfl)
theorem dX2_year_46 : decode cX2_year 46 = .ok (.iconst 0, 1) := dk_3 (dk_at dksX2_year_2 0 rfl rfl)
theorem dX2_year_47 : decode cX2_year 47 = .ok (.istore 5, 2) := dk_54 5 (dk_at dksX2_year_2 1 rfl rfl)
theorem dX2_year_49 : decode cX2_year 49 = .ok (.iload 5, 2) := dk_21 5 (dk_at dksX2_year_2 3 rfl rfl)
theorem dX2_year_51 : decode cX2_year 51 = .ok (.iload_n 2, 1) := dk_28 (dk_at dksX2_year_2 5 rfl rfl)
theorem dX2_year_52 : decode cX2_year 52 = .ok (.if_icmp .ge 179, 3) := dk_162 0 179 (dk_at dksX2_year_2 6 rfl rfl)
theorem dX2_year_55 : decode cX2_year 55 = .ok (.iload_n 3, 1) := dk_29 (dk_at dksX2_year_2 9 rfl rfl)
theorem dX2_year_56 : decode cX2_year 56 = .ok (.aload_n 0, 1) := dk_42 (dk_at dksX2_year_2 10 rfl rfl)
theorem dX2_year_57 : decode cX2_year 57 = .ok (.getfield 7, 3) := dk_180 0 7 (dk_at dksX2_year_2 11 rfl rfl)
theorem dX2_year_60 : decode cX2_year 60 = .ok (.iconst 0, 1) := dk_3 (dk_at dksX2_year_2 14 rfl rfl)
theorem dX2_year_61 : decode cX2_year 61 = .ok (.iaload, 1) := dk_46 (dk_at dksX2_year_2 15 rfl rfl)
theorem dX2_year_62 : decode cX2_year 62 = .ok (.irem, 1) := dk_112 (dk_at dksX2_year_2 16 rfl rfl)
theorem dX2_year_63 : decode cX2_year 63 = .ok (.istore 6, 2) := dk_54 6 (dk_at dksX2_year_2 17 rfl rfl)
theorem dX2_year_65 : decode cX2_year 65 = .ok (.iload_n 3, 1) := dk_29 (dk_at dksX2_year_2 19 rfl rfl)
theorem dX2_year_66 : decode cX2_year 66 = .ok (.invokestatic 379, 3) := dk_184 1 123 (dk_at dksX2_year_2 20 rfl rfl)
theorem dX2_year_69 : decode cX2_year 69 = .ok (.istore_n 3, 1) := dk_62 (dk_at dksX2_year_2 23 rfl rfl)
theorem dX2_year_70 : decode cX2_year 70 = .ok (.aload_n 0, 1) := dk_42 (dk_at dksX2_year_3 0 rfl rfl)
theorem dX2_year_71 : decode cX2_year 71 = .ok (.iload 6, 2) := dk_21 6 (dk_at dksX2_year_3 1 rfl rfl)
theorem dX2_year_73 : decode cX2_year 73 = .ok (.invokevirtual 382, 3) := dk_182 1 126 (dk_at dksX2_year_3 3 rfl rfl)
theorem dX2_year_76 : decode cX2_year 76 = .ok (.ifCond .eq 95, 3) := dk_153 0 95 (dk_at dksX2_year_3 6 rfl rfl)
theorem dX2_year_79 : decode cX2_year 79 = .ok (.aload_n 0, 1) := dk_42 (dk_at dksX2_year_3 9 rfl rfl)
theorem dX2_year_80 : decode cX2_year 80 = .ok (.getfield 7, 3) := dk_180 0 7 (dk_at dksX2_year_3 10 rfl rfl)
theorem dX2_year_83 : decode cX2_year 83 = .ok (.bipush 13, 2) := dk_16 13 (dk_at dksX2_year_3 13 rfl rfl)
theorem dX2_year_85 : decode cX2_year 85 = .ok (.aload_n 0, 1) := dk_42 (dk_at dksX2_year_3 15 rfl rfl)
theorem dX2_year_86 : decode cX2_year 86 = .ok (.iload 6, 2) := dk_21 6 (dk_at dksX2_year_3 16 rfl rfl)
theorem dX2_year_88 : decode cX2_year 88 = .ok (.iconst 5, 1) := dk_8 (dk_at dksX2_year_3 18 rfl rfl)
theorem dX2_year_89 : decode cX2_year 89 = .ok (.invokevirtual 97, 3) := dk_182 0 97 (dk_at dksX2_year_3 19 rfl rfl)
theorem dX2_year_92 : decode cX2_year 92 = .ok (.iadd, 1) := dk_96 (dk_at dksX2_year_3 22 rfl rfl)
theorem dX2_year_93 : decode cX2_year 93 = .ok (.iaload, 1) := dk_46 (dk_at dksX2_year_3 23 rfl rfl)
theorem dX2_year_94 : decode cX2_year 94 = .ok (.iconst 1, 1) := dk_4 (dk_at dksX2_year_4 0 rfl rfl)
theorem dX2_year_95 : decode cX2_year 95 = .ok (.if_icmp .le 76, 3) := dk_164 0 76 (dk_at dksX2_year_4 1 rfl rfl)
theorem dX2_year_98 : decode cX2_year 98 = .ok (.aload_n 0, 1) := dk_42 (dk_at dksX2_year_4 4 rfl rfl)
theorem dX2_year_99 : decode cX2_year 99 = .ok (.iload 6, 2) := dk_21 6 (dk_at dksX2_year_4 5 rfl rfl)
theorem dX2_year_101 : decode cX2_year 101 = .ok (.iconst 5, 1) := dk_8 (dk_at dksX2_year_4 7 rfl rfl)
theorem dX2_year_102 : decode cX2_year 102 = .ok (.invokevirtual 97, 3) := dk_182 0 97 (dk_at dksX2_year_4 8 rfl rfl)
theorem dX2_year_105 : decode cX2_year 105 = .ok (.istore 7, 2) := dk_54 7 (dk_at dksX2_year_4 11 rfl rfl)
theorem dX2_year_107 : decode cX2_year 107 = .ok (.aload_n 0, 1) := dk_42 (dk_at dksX2_year_4 13 rfl rfl)
theorem dX2_year_108 : decode cX2_year 108 = .ok (.iload 6, 2) := dk_21 6 (dk_at dksX2_year_4 14 rfl rfl)
theorem dX2_year_110 : decode cX2_year 110 = .ok (.invokevirtual 354, 3) := dk_182 1 98 (dk_at dksX2_year_4 16 rfl rfl)
theorem dX2_year_113 : decode cX2_year 113 = .ok (.istore 8, 2) := dk_54 8 (dk_at dksX2_year_4 19 rfl rfl)
theorem dX2_year_115 : decode cX2_year 115 = .ok (.iload_n 3, 1) := dk_29 (dk_at dksX2_year_4 21 rfl rfl)
theorem dX2_year_116 : decode cX2_year 116 = .ok (.aload_n 0, 1) := dk_42 (dk_at dksX2_year_4 22 rfl rfl)
theorem dX2_year_117 : decode cX2_year 117 = .ok (.getfield 7, 3) := dk_180 0 7 (dk_at dksX2_year_5 0 rfl rfl)
theorem dX2_year_120 : decode cX2_year 120 = .ok (.bipush 13, 2) := dk_16 13 (dk_at dksX2_year_5 3 rfl rfl)
theorem dX2_year_122 : decode cX2_year 122 = .ok (.iload 7, 2) := dk_21 7 (dk_at dksX2_year_5 5 rfl rfl)
theorem dX2_year_124 : decode cX2_year 124 = .ok (.iadd, 1) := dk_96 (dk_at dksX2_year_5 7 rfl rfl)
theorem dX2_year_125 : decode cX2_year 125 = .ok (.iaload, 1) := dk_46 (dk_at dksX2_year_5 8 rfl rfl)
theorem dX2_year_126 : decode cX2_year 126 = .ok (.irem, 1) := dk_112 (dk_at dksX2_year_5 9 rfl rfl)
theorem dX2_year_127 : decode cX2_year 127 = .ok (.istore 9, 2) := dk_54 9 (dk_at dksX2_year_5 10 rfl rfl)
theorem dX2_year_129 : decode cX2_year 129 = .ok (.iload_n 3, 1) := dk_29 (dk_at dksX2_year_5 12 rfl rfl)
theorem dX2_year_130 : decode cX2_year 130 = .ok (.invokestatic 379, 3) := dk_184 1 123 (dk_at dksX2_year_5 13 rfl rfl)
theorem dX2_year_133 : decode cX2_year 133 = .ok (.istore_n 3, 1) := dk_62 (dk_at dksX2_year_5 16 rfl rfl)
theorem dX2_year_134 : decode cX2_year 134 = .ok (.aload_n 0, 1) := dk_42 (dk_at dksX2_year_5 17 rfl rfl)
theorem dX2_year_135 : decode cX2_year 135 = .ok (.iload 7, 2) := dk_21 7 (dk_at dksX2_year_5 18 rfl rfl)
theorem dX2_year_137 : decode cX2_year 137 = .ok (.iload 8, 2) := dk_21 8 (dk_at dksX2_year_5 20 rfl rfl)
theorem dX2_year_139 : decode cX2_year 139 = .ok (.iload 7, 2) := dk_21 7 (dk_at dksX2_year_5 22 rfl rfl)
theorem dX2_year_141 : decode cX2_year 141 = .ok (.invokevirtual 333, 3) := dk_182 1 77 (dk_at dksX2_year_6 0 rfl rfl)
theorem dX2_year_144 : decode cX2_year 144 = .ok (.aload_n 0, 1) := dk_42 (dk_at dksX2_year_6 3 rfl rfl)
theorem dX2_year_145 : decode cX2_year 145 = .ok (.iload 6, 2) := dk_21 6 (dk_at dksX2_year_6 4 rfl rfl)
theorem dX2_year_147 : decode cX2_year 147 = .ok (.iload 7, 2) := dk_21 7 (dk_at dksX2_year_6 6 rfl rfl)
theorem dX2_year_149 : decode cX2_year 149 = .ok (.iload 9, 2) := dk_21 9 (dk_at dksX2_year_6 8 rfl rfl)
theorem dX2_year_151 : decode cX2_year 151 = .ok (.invokevirtual 357, 3) := dk_182 1 101 (dk_at dksX2_year_6 10 rfl rfl)
theorem dX2_year_154 : decode cX2_year 154 = .ok (.iload 4, 2) := dk_21 4 (dk_at dksX2_year_6 13 rfl rfl)
theorem dX2_year_156 : decode cX2_year 156 = .ok (.iload 9, 2) := dk_21 9 (dk_at dksX2_year_6 15 rfl rfl)
theorem dX2_year_158 : decode cX2_year 158 = .ok (.iload 8, 2) := dk_21 8 (dk_at dksX2_year_6 17 rfl rfl)
theorem dX2_year_160 : decode cX2_year 160 = .ok (.if_icmp .eq 7, 3) := dk_159 0 7 (dk_at dksX2_year_6 19 rfl rfl)
theorem dX2_year_163 : decode cX2_year 163 = .ok (.iconst 1, 1) := dk_4 (dk_at dksX2_year_6 22 rfl rfl)
theorem dX2_year_164 : decode cX2_year 164 = .ok (.goto 4, 3) := dk_167 0 4 (dk_at dksX2_year_7 0 rfl rfl)
theorem dX2_year_167 : decode cX2_year 167 = .ok (.iconst 0, 1) := dk_3 (dk_at dksX2_year_7 3 rfl rfl)
theorem dX2_year_168 : decode cX2_year 168 = .ok (.iadd, 1) := dk_96 (dk_at dksX2_year_7 4 rfl rfl)
theorem dX2_year_169 : decode cX2_year 169 = .ok (.istore 4, 2) := dk_54 4 (dk_at dksX2_year_7 5 rfl rfl)
theorem dX2_year_171 : decode cX2_year 171 = .ok (.iload_n 3, 1) := dk_29 (dk_at dksX2_year_7 7 rfl rfl)
theorem dX2_year_172 : decode cX2_year 172 = .ok (.bipush 10, 2) := dk_16 10 (dk_at dksX2_year_7 8 rfl rfl)
theorem dX2_year_174 : decode cX2_year 174 = .ok (.irem, 1) := dk_112 (dk_at dksX2_year_7 10 rfl rfl)
theorem dX2_year_175 : decode cX2_year 175 = .ok (.iconst 3, 1) := dk_6 (dk_at dksX2_year_7 11 rfl rfl)
theorem dX2_year_176 : decode cX2_year 176 = .ok (.if_icmp .ge 44, 3) := dk_162 0 44 (dk_at dksX2_year_7 12 rfl rfl)
theorem dX2_year_179 : decode cX2_year 179 = .ok (.aload_n 0, 1) := dk_42 (dk_at dksX2_year_7 15 rfl rfl)
theorem dX2_year_180 : decode cX2_year 180 = .ok (.getfield 7, 3) := dk_180 0 7 (dk_at dksX2_year_7 16 rfl rfl)
theorem dX2_year_183 : decode cX2_year 183 = .ok (.iconst 2, 1) := dk_5 (dk_at dksX2_year_7 19 rfl rfl)
theorem dX2_year_184 : decode cX2_year 184 = .ok (.iconst 1, 1) := dk_4 (dk_at dksX2_year_7 20 rfl rfl)
theorem dX2_year_185 : decode cX2_year 185 = .ok (.aload_n 0, 1) := dk_42 (dk_at dksX2_year_7 21 rfl rfl)
theorem dX2_year_186 : decode cX2_year 186 = .ok (.getfield 7, 3) := dk_180 0 7 (dk_at dksX2_year_8 0 rfl rfl)
theorem dX2_year_189 : decode cX2_year 189 = .ok (.iconst 2, 1) := dk_5 (dk_at dksX2_year_8 3 rfl rfl)
theorem dX2_year_190 : decode cX2_year 190 = .ok (.iaload, 1) := dk_46 (dk_at dksX2_year_8 4 rfl rfl)
theorem dX2_year_191 : decode cX2_year 191 = .ok (.isub, 1) := dk_100 (dk_at dksX2_year_8 5 rfl rfl)
theorem dX2_year_192 : decode cX2_year 192 = .ok (.iastore, 1) := dk_79 (dk_at dksX2_year_8 6 rfl rfl)
theorem dX2_year_193 : decode cX2_year 193 = .ok (.aload_n 0, 1) := dk_42 (dk_at dksX2_year_8 7 rfl rfl)
theorem dX2_year_194 : decode cX2_year 194 = .ok (.dup, 1) := dk_89 (dk_at dksX2_year_8 8 rfl rfl)
theorem dX2_year_195 : decode cX2_year 195 = .ok (.getfield 345, 3) := dk_180 1 89 (dk_at dksX2_year_8 9 rfl rfl)
theorem dX2_year_198 : decode cX2_year 198 = .ok (.aload_n 0, 1) := dk_42 (dk_at dksX2_year_8 12 rfl rfl)
theorem dX2_year_199 : decode cX2_year 199 = .ok (.getfield 7, 3) := dk_180 0 7 (dk_at dksX2_year_8 13 rfl rfl)
theorem dX2_year_202 : decode cX2_year 202 = .ok (.iconst 2, 1) := dk_5 (dk_at dksX2_year_8 16 rfl rfl)
theorem dX2_year_203 : decode cX2_year 203 = .ok (.iaload, 1) := dk_46 (dk_at dksX2_year_8 17 rfl rfl)
theorem dX2_year_204 : decode cX2_year 204 = .ok (.iconst 1, 1) := dk_4 (dk_at dksX2_year_8 18 rfl rfl)
theorem dX2_year_205 : decode cX2_year 205 = .ok (.if_icmp .ne 10, 3) := dk_160 0 10 (dk_at dksX2_year_8 19 rfl rfl)
theorem dX2_year_208 : decode cX2_year 208 = .ok (.aload_n 0, 1) := dk_42 (dk_at dksX2_year_8 22 rfl rfl)
theorem dX2_year_209 : decode cX2_year 209 = .ok (.invokevirtual 348, 3) := dk_182 1 92 (dk_at dksX2_year_9 0 rfl rfl)
theorem dX2_year_212 : decode cX2_year 212 = .ok (.goto 4, 3) := dk_167 0 4 (dk_at dksX2_year_9 3 rfl rfl)
theorem dX2_year_215 : decode cX2_year 215 = .ok (.iconst 0, 1) := dk_3 (dk_at dksX2_year_9 6 rfl rfl)
theorem dX2_year_216 : decode cX2_year 216 = .ok (.iadd, 1) := dk_96 (dk_at dksX2_year_9 7 rfl rfl)
theorem dX2_year_217 : decode cX2_year 217 = .ok (.putfield 345, 3) := dk_181 1 89 (dk_at dksX2_year_9 8 rfl rfl)
theorem dX2_year_220 : decode cX2_year 220 = .ok (.iload_n 3, 1) := dk_29 (dk_at dksX2_year_9 11 rfl rfl)
theorem dX2_year_221 : decode cX2_year 221 = .ok (.invokestatic 379, 3) := dk_184 1 123 (dk_at dksX2_year_9 12 rfl rfl)
theorem dX2_year_224 : decode cX2_year 224 = .ok (.istore_n 3, 1) := dk_62 (dk_at dksX2_year_9 15 rfl rfl)
theorem dX2_year_225 : decode cX2_year 225 = .ok (.iinc 5 1, 3) := dk_132 5 1 (dk_at dksX2_year_9 16 rfl rfl)
theorem dX2_year_228 : decode cX2_year 228 = .ok (.goto (-179), 3) := dk_167 255 77 (dk_at dksX2_year_9 19 rfl rfl)
theorem dX2_year_231 : decode cX2_year 231 = .ok (.aload_n 0, 1) := dk_42 (dk_at dksX2_year_9 22 rfl rfl)
theorem dX2_year_232 : decode cX2_year 232 = .ok (.getfield 7, 3) := dk_180 0 7 (dk_at dksX2_year_10 0 rfl rfl)
theorem dX2_year_235 : decode cX2_year 235 = .ok (.iconst 4, 1) := dk_7 (dk_at dksX2_year_10 3 rfl rfl)
theorem dX2_year_236 : decode cX2_year 236 = .ok (.iload_n 3, 1) := dk_29 (dk_at dksX2_year_10 4 rfl rfl)
theorem dX2_year_237 : decode cX2_year 237 = .ok (.iastore, 1) := dk_79 (dk_at dksX2_year_10 5 rfl rfl)
theorem dX2_year_238 : decode cX2_year 238 = .ok (.iload 4, 2) := dk_21 4 (dk_at dksX2_year_10 6 rfl rfl)
theorem dX2_year_240 : decode cX2_year 240 = .ok (.ireturn, 1) := dk_172 (dk_at dksX2_year_10 8 rfl rfl)
abbrev MX2_year : jjM := (yX2_year, cX2_year, 10, (Option.some Jvm.ClassFile.FieldType.int))
theorem npX2_year : yX2_year.cls ≠ "java/lang/invoke/MethodHandle" ∧ yX2_year.cls ≠ "java/lang/invoke/VarHandle" ∧ (parseMethodDescriptor yX2_year.desc).map (fun d => d.parameters.length) = some 2 := by decide +kernel
abbrev cX2_anew : ByteArray := prog_17_method_88_code
def yX2_anew : MethodName := ⟨RX2, "anew", "(I)I"⟩
def dkwX2_anew_0 : List UInt8 := [26, 17, 0, 179, 104, 16, 101, 96, 17, 117, 161, 112, 172]
abbrev dktX2_anew_0 : List UInt8 := dkwX2_anew_0 ++ []
theorem dksX2_anew_0 : cX2_anew.data.toList.drop 0 = dktX2_anew_0 := by decide +kernel
theorem dX2_anew_0 : decode cX2_anew 0 = .ok (.iload_n 0, 1) := dk_26 (dk_at dksX2_anew_0 0 rfl rfl)
theorem dX2_anew_1 : decode cX2_anew 1 = .ok (.sipush 179, 3) := dk_17 0 179 (dk_at dksX2_anew_0 1 rfl rfl)
theorem dX2_anew_4 : decode cX2_anew 4 = .ok (.imul, 1) := dk_104 (dk_at dksX2_anew_0 4 rfl rfl)
theorem dX2_anew_5 : decode cX2_anew 5 = .ok (.bipush 101, 2) := dk_16 101 (dk_at dksX2_anew_0 5 rfl rfl)
theorem dX2_anew_7 : decode cX2_anew 7 = .ok (.iadd, 1) := dk_96 (dk_at dksX2_anew_0 7 rfl rfl)
theorem dX2_anew_8 : decode cX2_anew 8 = .ok (.sipush 30113, 3) := dk_17 117 161 (dk_at dksX2_anew_0 8 rfl rfl)
theorem dX2_anew_11 : decode cX2_anew 11 = .ok (.irem, 1) := dk_112 (dk_at dksX2_anew_0 11 rfl rfl)
theorem dX2_anew_12 : decode cX2_anew 12 = .ok (.ireturn, 1) := dk_172 (dk_at dksX2_anew_0 12 rfl rfl)
abbrev MX2_anew : jjM := (yX2_anew, cX2_anew, 1, (Option.some Jvm.ClassFile.FieldType.int))
theorem npX2_anew : yX2_anew.cls ≠ "java/lang/invoke/MethodHandle" ∧ yX2_anew.cls ≠ "java/lang/invoke/VarHandle" ∧ (parseMethodDescriptor yX2_anew.desc).map (fun d => d.parameters.length) = some 1 := by decide +kernel
abbrev cX2_isOnShelf : ByteArray := prog_17_method_11_code
def yX2_isOnShelf : MethodName := ⟨RX2, "isOnShelf", "(I)Z"⟩
def dkwX2_isOnShelf_0 : List UInt8 := [42, 27, 182, 0, 93, 153, 0, 17, 42, 27, 8, 182, 0, 97, 6, 162, 0, 7, 4, 167, 0, 4, 3, 172]
abbrev dktX2_isOnShelf_0 : List UInt8 := dkwX2_isOnShelf_0 ++ []
theorem dksX2_isOnShelf_0 : cX2_isOnShelf.data.toList.drop 0 = dktX2_isOnShelf_0 := by decide +kernel
theorem dX2_isOnShelf_0 : decode cX2_isOnShelf 0 = .ok (.aload_n 0, 1) := dk_42 (dk_at dksX2_isOnShelf_0 0 rfl rfl)
theorem dX2_isOnShelf_1 : decode cX2_isOnShelf 1 = .ok (.iload_n 1, 1) := dk_27 (dk_at dksX2_isOnShelf_0 1 rfl rfl)
theorem dX2_isOnShelf_2 : decode cX2_isOnShelf 2 = .ok (.invokevirtual 93, 3) := dk_182 0 93 (dk_at dksX2_isOnShelf_0 2 rfl rfl)
theorem dX2_isOnShelf_5 : decode cX2_isOnShelf 5 = .ok (.ifCond .eq 17, 3) := dk_153 0 17 (dk_at dksX2_isOnShelf_0 5 rfl rfl)
theorem dX2_isOnShelf_8 : decode cX2_isOnShelf 8 = .ok (.aload_n 0, 1) := dk_42 (dk_at dksX2_isOnShelf_0 8 rfl rfl)
theorem dX2_isOnShelf_9 : decode cX2_isOnShelf 9 = .ok (.iload_n 1, 1) := dk_27 (dk_at dksX2_isOnShelf_0 9 rfl rfl)
theorem dX2_isOnShelf_10 : decode cX2_isOnShelf 10 = .ok (.iconst 5, 1) := dk_8 (dk_at dksX2_isOnShelf_0 10 rfl rfl)
theorem dX2_isOnShelf_11 : decode cX2_isOnShelf 11 = .ok (.invokevirtual 97, 3) := dk_182 0 97 (dk_at dksX2_isOnShelf_0 11 rfl rfl)
theorem dX2_isOnShelf_14 : decode cX2_isOnShelf 14 = .ok (.iconst 3, 1) := dk_6 (dk_at dksX2_isOnShelf_0 14 rfl rfl)
theorem dX2_isOnShelf_15 : decode cX2_isOnShelf 15 = .ok (.if_icmp .ge 7, 3) := dk_162 0 7 (dk_at dksX2_isOnShelf_0 15 rfl rfl)
theorem dX2_isOnShelf_18 : decode cX2_isOnShelf 18 = .ok (.iconst 1, 1) := dk_4 (dk_at dksX2_isOnShelf_0 18 rfl rfl)
theorem dX2_isOnShelf_19 : decode cX2_isOnShelf 19 = .ok (.goto 4, 3) := dk_167 0 4 (dk_at dksX2_isOnShelf_0 19 rfl rfl)
theorem dX2_isOnShelf_22 : decode cX2_isOnShelf 22 = .ok (.iconst 0, 1) := dk_3 (dk_at dksX2_isOnShelf_0 22 rfl rfl)
theorem dX2_isOnShelf_23 : decode cX2_isOnShelf 23 = .ok (.ireturn, 1) := dk_172 (dk_at dksX2_isOnShelf_0 23 rfl rfl)
abbrev MX2_isOnShelf : jjM := (yX2_isOnShelf, cX2_isOnShelf, 2, (Option.some Jvm.ClassFile.FieldType.boolean))
theorem npX2_isOnShelf : yX2_isOnShelf.cls ≠ "java/lang/invoke/MethodHandle" ∧ yX2_isOnShelf.cls ≠ "java/lang/invoke/VarHandle" ∧ (parseMethodDescriptor yX2_isOnShelf.desc).map (fun d => d.parameters.length) = some 1 := by decide +kernel
abbrev cX2_at : ByteArray := prog_17_method_90_code
def yX2_at : MethodName := ⟨RX2, "at", "(II)I"⟩
def dkwX2_at_2 : List UInt8 := [182, 0, 101, 167, 0, 4, 2, 172]
abbrev dktX2_at_2 : List UInt8 := dkwX2_at_2 ++ []
def dkwX2_at_1 : List UInt8 := [28, 3, 42, 180, 0, 7, 16, 13, 27, 96, 46, 4, 100, 184, 0, 89, 153, 0, 12, 42, 27, 28]
abbrev dktX2_at_1 : List UInt8 := dkwX2_at_1 ++ dktX2_at_2
def dkwX2_at_0 : List UInt8 := [27, 184, 1, 54, 154, 0, 5, 2, 172, 28, 2, 160, 0, 13, 42, 180, 0, 7, 16, 13, 27, 96, 46, 172]
abbrev dktX2_at_0 : List UInt8 := dkwX2_at_0 ++ dktX2_at_1
theorem dksX2_at_0 : cX2_at.data.toList.drop 0 = dktX2_at_0 := by decide +kernel
theorem dksX2_at_1 : cX2_at.data.toList.drop 24 = dktX2_at_1 := dk_seg dksX2_at_0 24 rfl rfl
theorem dksX2_at_2 : cX2_at.data.toList.drop 46 = dktX2_at_2 := dk_seg dksX2_at_1 22 rfl rfl
theorem dX2_at_0 : decode cX2_at 0 = .ok (.iload_n 1, 1) := dk_27 (dk_at dksX2_at_0 0 rfl rfl)
theorem dX2_at_1 : decode cX2_at 1 = .ok (.invokestatic 310, 3) := dk_184 1 54 (dk_at dksX2_at_0 1 rfl rfl)
theorem dX2_at_4 : decode cX2_at 4 = .ok (.ifCond .ne 5, 3) := dk_154 0 5 (dk_at dksX2_at_0 4 rfl rfl)
theorem dX2_at_7 : decode cX2_at 7 = .ok (.iconst (-1), 1) := dk_2 (dk_at dksX2_at_0 7 rfl rfl)
theorem dX2_at_8 : decode cX2_at 8 = .ok (.ireturn, 1) := dk_172 (dk_at dksX2_at_0 8 rfl rfl)
theorem dX2_at_9 : decode cX2_at 9 = .ok (.iload_n 2, 1) := dk_28 (dk_at dksX2_at_0 9 rfl rfl)
theorem dX2_at_10 : decode cX2_at 10 = .ok (.iconst (-1), 1) := dk_2 (dk_at dksX2_at_0 10 rfl rfl)
theorem dX2_at_11 : decode cX2_at 11 = .ok (.if_icmp .ne 13, 3) := dk_160 0 13 (dk_at dksX2_at_0 11 rfl rfl)
theorem dX2_at_14 : decode cX2_at 14 = .ok (.aload_n 0, 1) := dk_42 (dk_at dksX2_at_0 14 rfl rfl)
theorem dX2_at_15 : decode cX2_at 15 = .ok (.getfield 7, 3) := dk_180 0 7 (dk_at dksX2_at_0 15 rfl rfl)
theorem dX2_at_18 : decode cX2_at 18 = .ok (.bipush 13, 2) := dk_16 13 (dk_at dksX2_at_0 18 rfl rfl)
theorem dX2_at_20 : decode cX2_at 20 = .ok (.iload_n 1, 1) := dk_27 (dk_at dksX2_at_0 20 rfl rfl)
theorem dX2_at_21 : decode cX2_at 21 = .ok (.iadd, 1) := dk_96 (dk_at dksX2_at_0 21 rfl rfl)
theorem dX2_at_22 : decode cX2_at 22 = .ok (.iaload, 1) := dk_46 (dk_at dksX2_at_0 22 rfl rfl)
theorem dX2_at_23 : decode cX2_at 23 = .ok (.ireturn, 1) := dk_172 (dk_at dksX2_at_0 23 rfl rfl)
theorem dX2_at_24 : decode cX2_at 24 = .ok (.iload_n 2, 1) := dk_28 (dk_at dksX2_at_1 0 rfl rfl)
theorem dX2_at_25 : decode cX2_at 25 = .ok (.iconst 0, 1) := dk_3 (dk_at dksX2_at_1 1 rfl rfl)
theorem dX2_at_26 : decode cX2_at 26 = .ok (.aload_n 0, 1) := dk_42 (dk_at dksX2_at_1 2 rfl rfl)
theorem dX2_at_27 : decode cX2_at 27 = .ok (.getfield 7, 3) := dk_180 0 7 (dk_at dksX2_at_1 3 rfl rfl)
theorem dX2_at_30 : decode cX2_at 30 = .ok (.bipush 13, 2) := dk_16 13 (dk_at dksX2_at_1 6 rfl rfl)
theorem dX2_at_32 : decode cX2_at 32 = .ok (.iload_n 1, 1) := dk_27 (dk_at dksX2_at_1 8 rfl rfl)
theorem dX2_at_33 : decode cX2_at 33 = .ok (.iadd, 1) := dk_96 (dk_at dksX2_at_1 9 rfl rfl)
theorem dX2_at_34 : decode cX2_at 34 = .ok (.iaload, 1) := dk_46 (dk_at dksX2_at_1 10 rfl rfl)
theorem dX2_at_35 : decode cX2_at 35 = .ok (.iconst 1, 1) := dk_4 (dk_at dksX2_at_1 11 rfl rfl)
theorem dX2_at_36 : decode cX2_at 36 = .ok (.isub, 1) := dk_100 (dk_at dksX2_at_1 12 rfl rfl)
theorem dX2_at_37 : decode cX2_at 37 = .ok (.invokestatic 89, 3) := dk_184 0 89 (dk_at dksX2_at_1 13 rfl rfl)
theorem dX2_at_40 : decode cX2_at 40 = .ok (.ifCond .eq 12, 3) := dk_153 0 12 (dk_at dksX2_at_1 16 rfl rfl)
theorem dX2_at_43 : decode cX2_at 43 = .ok (.aload_n 0, 1) := dk_42 (dk_at dksX2_at_1 19 rfl rfl)
theorem dX2_at_44 : decode cX2_at 44 = .ok (.iload_n 1, 1) := dk_27 (dk_at dksX2_at_1 20 rfl rfl)
theorem dX2_at_45 : decode cX2_at 45 = .ok (.iload_n 2, 1) := dk_28 (dk_at dksX2_at_1 21 rfl rfl)
theorem dX2_at_46 : decode cX2_at 46 = .ok (.invokevirtual 101, 3) := dk_182 0 101 (dk_at dksX2_at_2 0 rfl rfl)
theorem dX2_at_49 : decode cX2_at 49 = .ok (.goto 4, 3) := dk_167 0 4 (dk_at dksX2_at_2 3 rfl rfl)
theorem dX2_at_52 : decode cX2_at 52 = .ok (.iconst (-1), 1) := dk_2 (dk_at dksX2_at_2 6 rfl rfl)
theorem dX2_at_53 : decode cX2_at 53 = .ok (.ireturn, 1) := dk_172 (dk_at dksX2_at_2 7 rfl rfl)
abbrev MX2_at : jjM := (yX2_at, cX2_at, 3, (Option.some Jvm.ClassFile.FieldType.int))
theorem npX2_at : yX2_at.cls ≠ "java/lang/invoke/MethodHandle" ∧ yX2_at.cls ≠ "java/lang/invoke/VarHandle" ∧ (parseMethodDescriptor yX2_at.desc).map (fun d => d.parameters.length) = some 2 := by decide +kernel
abbrev cX2_of : ByteArray := prog_17_method_91_code
def yX2_of : MethodName := ⟨RX2, "of", "(II)I"⟩
def dkwX2_of_3 : List UInt8 := [27, 28, 5, 100, 182, 0, 97, 172]
abbrev dktX2_of_3 : List UInt8 := dkwX2_of_3 ++ []
def dkwX2_of_2 : List UInt8 := [27, 182, 1, 98, 167, 0, 4, 2, 172, 28, 16, 7, 160, 0, 11, 42, 27, 182, 1, 40, 167, 0, 11, 42]
abbrev dktX2_of_2 : List UInt8 := dkwX2_of_2 ++ dktX2_of_3
def dkwX2_of_1 : List UInt8 := [154, 0, 10, 42, 27, 8, 182, 0, 97, 172, 28, 4, 160, 0, 21, 42, 27, 182, 1, 126, 153, 0, 11, 42]
abbrev dktX2_of_1 : List UInt8 := dkwX2_of_1 ++ dktX2_of_2
def dkwX2_of_0 : List UInt8 := [42, 27, 182, 0, 93, 153, 0, 13, 28, 3, 16, 7, 184, 0, 89, 154, 0, 6, 16, 254, 172, 28]
abbrev dktX2_of_0 : List UInt8 := dkwX2_of_0 ++ dktX2_of_1
theorem dksX2_of_0 : cX2_of.data.toList.drop 0 = dktX2_of_0 := by decide +kernel
theorem dksX2_of_1 : cX2_of.data.toList.drop 22 = dktX2_of_1 := dk_seg dksX2_of_0 22 rfl rfl
theorem dksX2_of_2 : cX2_of.data.toList.drop 46 = dktX2_of_2 := dk_seg dksX2_of_1 24 rfl rfl
theorem dksX2_of_3 : cX2_of.data.toList.drop 70 = dktX2_of_3 := dk_seg dksX2_of_2 24 rfl rfl
theorem dX2_of_0 : decode cX2_of 0 = .ok (.aload_n 0, 1) := dk_42 (dk_at dksX2_of_0 0 rfl rfl)
theorem dX2_of_1 : decode cX2_of 1 = .ok (.iload_n 1, 1) := dk_27 (dk_at dksX2_of_0 1 rfl rfl)
theorem dX2_of_2 : decode cX2_of 2 = .ok (.invokevirtual 93, 3) := dk_182 0 93 (dk_at dksX2_of_0 2 rfl rfl)
theorem dX2_of_5 : decode cX2_of 5 = .ok (.ifCond .eq 13, 3) := dk_153 0 13 (dk_at dksX2_of_0 5 rfl rfl)
theorem dX2_of_8 : decode cX2_of 8 = .ok (.iload_n 2, 1) := dk_28 (dk_at dksX2_of_0 8 rfl rfl)
theorem dX2_of_9 : decode cX2_of 9 = .ok (.iconst 0, 1) := dk_3 (dk_at dksX2_of_0 9 rfl rfl)
theorem dX2_of_10 : decode cX2_of 10 = .ok (.bipush 7, 2) := dk_16 7 (dk_at dksX2_of_0 10 rfl rfl)
theorem dX2_of_12 : decode cX2_of 12 = .ok (.invokestatic 89, 3) := dk_184 0 89 (dk_at dksX2_of_0 12 rfl rfl)
theorem dX2_of_15 : decode cX2_of 15 = .ok (.ifCond .ne 6, 3) := dk_154 0 6 (dk_at dksX2_of_0 15 rfl rfl)
theorem dX2_of_18 : decode cX2_of 18 = .ok (.bipush (-2), 2) := dk_16 254 (dk_at dksX2_of_0 18 rfl rfl)
theorem dX2_of_20 : decode cX2_of 20 = .ok (.ireturn, 1) := dk_172 (dk_at dksX2_of_0 20 rfl rfl)
theorem dX2_of_21 : decode cX2_of 21 = .ok (.iload_n 2, 1) := dk_28 (dk_at dksX2_of_0 21 rfl rfl)
theorem dX2_of_22 : decode cX2_of 22 = .ok (.ifCond .ne 10, 3) := dk_154 0 10 (dk_at dksX2_of_1 0 rfl rfl)
theorem dX2_of_25 : decode cX2_of 25 = .ok (.aload_n 0, 1) := dk_42 (dk_at dksX2_of_1 3 rfl rfl)
theorem dX2_of_26 : decode cX2_of 26 = .ok (.iload_n 1, 1) := dk_27 (dk_at dksX2_of_1 4 rfl rfl)
theorem dX2_of_27 : decode cX2_of 27 = .ok (.iconst 5, 1) := dk_8 (dk_at dksX2_of_1 5 rfl rfl)
theorem dX2_of_28 : decode cX2_of 28 = .ok (.invokevirtual 97, 3) := dk_182 0 97 (dk_at dksX2_of_1 6 rfl rfl)
theorem dX2_of_31 : decode cX2_of 31 = .ok (.ireturn, 1) := dk_172 (dk_at dksX2_of_1 9 rfl rfl)
theorem dX2_of_32 : decode cX2_of 32 = .ok (.iload_n 2, 1) := dk_28 (dk_at dksX2_of_1 10 rfl rfl)
theorem dX2_of_33 : decode cX2_of 33 = .ok (.iconst 1, 1) := dk_4 (dk_at dksX2_of_1 11 rfl rfl)
theorem dX2_of_34 : decode cX2_of 34 = .ok (.if_icmp .ne 21, 3) := dk_160 0 21 (dk_at dksX2_of_1 12 rfl rfl)
theorem dX2_of_37 : decode cX2_of 37 = .ok (.aload_n 0, 1) := dk_42 (dk_at dksX2_of_1 15 rfl rfl)
theorem dX2_of_38 : decode cX2_of 38 = .ok (.iload_n 1, 1) := dk_27 (dk_at dksX2_of_1 16 rfl rfl)
theorem dX2_of_39 : decode cX2_of 39 = .ok (.invokevirtual 382, 3) := dk_182 1 126 (dk_at dksX2_of_1 17 rfl rfl)
theorem dX2_of_42 : decode cX2_of 42 = .ok (.ifCond .eq 11, 3) := dk_153 0 11 (dk_at dksX2_of_1 20 rfl rfl)
theorem dX2_of_45 : decode cX2_of 45 = .ok (.aload_n 0, 1) := dk_42 (dk_at dksX2_of_1 23 rfl rfl)
theorem dX2_of_46 : decode cX2_of 46 = .ok (.iload_n 1, 1) := dk_27 (dk_at dksX2_of_2 0 rfl rfl)
theorem dX2_of_47 : decode cX2_of 47 = .ok (.invokevirtual 354, 3) := dk_182 1 98 (dk_at dksX2_of_2 1 rfl rfl)
theorem dX2_of_50 : decode cX2_of 50 = .ok (.goto 4, 3) := dk_167 0 4 (dk_at dksX2_of_2 4 rfl rfl)
theorem dX2_of_53 : decode cX2_of 53 = .ok (.iconst (-1), 1) := dk_2 (dk_at dksX2_of_2 7 rfl rfl)
theorem dX2_of_54 : decode cX2_of 54 = .ok (.ireturn, 1) := dk_172 (dk_at dksX2_of_2 8 rfl rfl)
theorem dX2_of_55 : decode cX2_of 55 = .ok (.iload_n 2, 1) := dk_28 (dk_at dksX2_of_2 9 rfl rfl)
theorem dX2_of_56 : decode cX2_of 56 = .ok (.bipush 7, 2) := dk_16 7 (dk_at dksX2_of_2 10 rfl rfl)
theorem dX2_of_58 : decode cX2_of 58 = .ok (.if_icmp .ne 11, 3) := dk_160 0 11 (dk_at dksX2_of_2 12 rfl rfl)
theorem dX2_of_61 : decode cX2_of 61 = .ok (.aload_n 0, 1) := dk_42 (dk_at dksX2_of_2 15 rfl rfl)
theorem dX2_of_62 : decode cX2_of 62 = .ok (.iload_n 1, 1) := dk_27 (dk_at dksX2_of_2 16 rfl rfl)
theorem dX2_of_63 : decode cX2_of 63 = .ok (.invokevirtual 296, 3) := dk_182 1 40 (dk_at dksX2_of_2 17 rfl rfl)
theorem dX2_of_66 : decode cX2_of 66 = .ok (.goto 11, 3) := dk_167 0 11 (dk_at dksX2_of_2 20 rfl rfl)
theorem dX2_of_69 : decode cX2_of 69 = .ok (.aload_n 0, 1) := dk_42 (dk_at dksX2_of_2 23 rfl rfl)
theorem dX2_of_70 : decode cX2_of 70 = .ok (.iload_n 1, 1) := dk_27 (dk_at dksX2_of_3 0 rfl rfl)
theorem dX2_of_71 : decode cX2_of 71 = .ok (.iload_n 2, 1) := dk_28 (dk_at dksX2_of_3 1 rfl rfl)
theorem dX2_of_72 : decode cX2_of 72 = .ok (.iconst 2, 1) := dk_5 (dk_at dksX2_of_3 2 rfl rfl)
theorem dX2_of_73 : decode cX2_of 73 = .ok (.isub, 1) := dk_100 (dk_at dksX2_of_3 3 rfl rfl)
theorem dX2_of_74 : decode cX2_of 74 = .ok (.invokevirtual 97, 3) := dk_182 0 97 (dk_at dksX2_of_3 4 rfl rfl)
theorem dX2_of_77 : decode cX2_of 77 = .ok (.ireturn, 1) := dk_172 (dk_at dksX2_of_3 7 rfl rfl)
abbrev MX2_of : jjM := (yX2_of, cX2_of, 3, (Option.some Jvm.ClassFile.FieldType.int))
theorem npX2_of : yX2_of.cls ≠ "java/lang/invoke/MethodHandle" ∧ yX2_of.cls ≠ "java/lang/invoke/VarHandle" ∧ (parseMethodDescriptor yX2_of.desc).map (fun d => d.parameters.length) = some 2 := by decide +kernel
abbrev cX2_shelf : ByteArray := prog_17_method_92_code
def yX2_shelf : MethodName := ⟨RX2, "shelf", "(II)I"⟩
def dkwX2_shelf_1 : List UInt8 := [180, 0, 7, 16, 10, 27, 96, 46, 167, 0, 8, 42, 27, 182, 1, 57, 172]
abbrev dktX2_shelf_1 : List UInt8 := dkwX2_shelf_1 ++ []
def dkwX2_shelf_0 : List UInt8 := [27, 184, 1, 54, 153, 0, 12, 28, 3, 4, 184, 0, 89, 154, 0, 5, 2, 172, 28, 154, 0, 15, 42]
abbrev dktX2_shelf_0 : List UInt8 := dkwX2_shelf_0 ++ dktX2_shelf_1
theorem dksX2_shelf_0 : cX2_shelf.data.toList.drop 0 = dktX2_shelf_0 := by decide +kernel
theorem dksX2_shelf_1 : cX2_shelf.data.toList.drop 23 = dktX2_shelf_1 := dk_seg dksX2_shelf_0 23 rfl rfl
theorem dX2_shelf_0 : decode cX2_shelf 0 = .ok (.iload_n 1, 1) := dk_27 (dk_at dksX2_shelf_0 0 rfl rfl)
theorem dX2_shelf_1 : decode cX2_shelf 1 = .ok (.invokestatic 310, 3) := dk_184 1 54 (dk_at dksX2_shelf_0 1 rfl rfl)
theorem dX2_shelf_4 : decode cX2_shelf 4 = .ok (.ifCond .eq 12, 3) := dk_153 0 12 (dk_at dksX2_shelf_0 4 rfl rfl)
theorem dX2_shelf_7 : decode cX2_shelf 7 = .ok (.iload_n 2, 1) := dk_28 (dk_at dksX2_shelf_0 7 rfl rfl)
theorem dX2_shelf_8 : decode cX2_shelf 8 = .ok (.iconst 0, 1) := dk_3 (dk_at dksX2_shelf_0 8 rfl rfl)
theorem dX2_shelf_9 : decode cX2_shelf 9 = .ok (.iconst 1, 1) := dk_4 (dk_at dksX2_shelf_0 9 rfl rfl)
theorem dX2_shelf_10 : decode cX2_shelf 10 = .ok (.invokestatic 89, 3) := dk_184 0 89 (dk_at dksX2_shelf_0 10 rfl rfl)
theorem dX2_shelf_13 : decode cX2_shelf 13 = .ok (.ifCond .ne 5, 3) := dk_154 0 5 (dk_at dksX2_shelf_0 13 rfl rfl)
theorem dX2_shelf_16 : decode cX2_shelf 16 = .ok (.iconst (-1), 1) := dk_2 (dk_at dksX2_shelf_0 16 rfl rfl)
theorem dX2_shelf_17 : decode cX2_shelf 17 = .ok (.ireturn, 1) := dk_172 (dk_at dksX2_shelf_0 17 rfl rfl)
theorem dX2_shelf_18 : decode cX2_shelf 18 = .ok (.iload_n 2, 1) := dk_28 (dk_at dksX2_shelf_0 18 rfl rfl)
theorem dX2_shelf_19 : decode cX2_shelf 19 = .ok (.ifCond .ne 15, 3) := dk_154 0 15 (dk_at dksX2_shelf_0 19 rfl rfl)
theorem dX2_shelf_22 : decode cX2_shelf 22 = .ok (.aload_n 0, 1) := dk_42 (dk_at dksX2_shelf_0 22 rfl rfl)
theorem dX2_shelf_23 : decode cX2_shelf 23 = .ok (.getfield 7, 3) := dk_180 0 7 (dk_at dksX2_shelf_1 0 rfl rfl)
theorem dX2_shelf_26 : decode cX2_shelf 26 = .ok (.bipush 10, 2) := dk_16 10 (dk_at dksX2_shelf_1 3 rfl rfl)
theorem dX2_shelf_28 : decode cX2_shelf 28 = .ok (.iload_n 1, 1) := dk_27 (dk_at dksX2_shelf_1 5 rfl rfl)
theorem dX2_shelf_29 : decode cX2_shelf 29 = .ok (.iadd, 1) := dk_96 (dk_at dksX2_shelf_1 6 rfl rfl)
theorem dX2_shelf_30 : decode cX2_shelf 30 = .ok (.iaload, 1) := dk_46 (dk_at dksX2_shelf_1 7 rfl rfl)
theorem dX2_shelf_31 : decode cX2_shelf 31 = .ok (.goto 8, 3) := dk_167 0 8 (dk_at dksX2_shelf_1 8 rfl rfl)
theorem dX2_shelf_34 : decode cX2_shelf 34 = .ok (.aload_n 0, 1) := dk_42 (dk_at dksX2_shelf_1 11 rfl rfl)
theorem dX2_shelf_35 : decode cX2_shelf 35 = .ok (.iload_n 1, 1) := dk_27 (dk_at dksX2_shelf_1 12 rfl rfl)
theorem dX2_shelf_36 : decode cX2_shelf 36 = .ok (.invokevirtual 313, 3) := dk_182 1 57 (dk_at dksX2_shelf_1 13 rfl rfl)
theorem dX2_shelf_39 : decode cX2_shelf 39 = .ok (.ireturn, 1) := dk_172 (dk_at dksX2_shelf_1 16 rfl rfl)
abbrev MX2_shelf : jjM := (yX2_shelf, cX2_shelf, 3, (Option.some Jvm.ClassFile.FieldType.int))
theorem npX2_shelf : yX2_shelf.cls ≠ "java/lang/invoke/MethodHandle" ∧ yX2_shelf.cls ≠ "java/lang/invoke/VarHandle" ∧ (parseMethodDescriptor yX2_shelf.desc).map (fun d => d.parameters.length) = some 2 := by decide +kernel
abbrev cX2_written : ByteArray := prog_17_method_93_code
def yX2_written : MethodName := ⟨RX2, "written", "(II)I"⟩
def dkwX2_written_3 : List UInt8 := [29, 100, 27, 96, 17, 2, 0, 112, 104, 96, 28, 96, 46, 172]
abbrev dktX2_written_3 : List UInt8 := dkwX2_written_3 ++ []
def dkwX2_written_2 : List UInt8 := [184, 0, 89, 154, 0, 6, 16, 254, 172, 42, 180, 0, 7, 17, 6, 58, 7, 42, 180, 0, 7, 16, 9, 46]
abbrev dktX2_written_2 : List UInt8 := dkwX2_written_2 ++ dktX2_written_3
def dkwX2_written_1 : List UInt8 := [62, 27, 2, 160, 0, 5, 29, 172, 27, 3, 29, 4, 100, 184, 0, 89, 153, 0, 12, 28, 3, 6]
abbrev dktX2_written_1 : List UInt8 := dkwX2_written_1 ++ dktX2_written_2
def dkwX2_written_0 : List UInt8 := [42, 180, 0, 7, 16, 9, 46, 16, 60, 162, 0, 13, 42, 180, 0, 7, 16, 9, 46, 167, 0, 5, 16, 60]
abbrev dktX2_written_0 : List UInt8 := dkwX2_written_0 ++ dktX2_written_1
theorem dksX2_written_0 : cX2_written.data.toList.drop 0 = dktX2_written_0 := by decide +kernel
theorem dksX2_written_1 : cX2_written.data.toList.drop 24 = dktX2_written_1 := dk_seg dksX2_written_0 24 rfl rfl
theorem dksX2_written_2 : cX2_written.data.toList.drop 46 = dktX2_written_2 := dk_seg dksX2_written_1 22 rfl rfl
theorem dksX2_written_3 : cX2_written.data.toList.drop 70 = dktX2_written_3 := dk_seg dksX2_written_2 24 rfl rfl
theorem dX2_written_0 : decode cX2_written 0 = .ok (.aload_n 0, 1) := dk_42 (dk_at dksX2_written_0 0 rfl rfl)
theorem dX2_written_1 : decode cX2_written 1 = .ok (.getfield 7, 3) := dk_180 0 7 (dk_at dksX2_written_0 1 rfl rfl)
theorem dX2_written_4 : decode cX2_written 4 = .ok (.bipush 9, 2) := dk_16 9 (dk_at dksX2_written_0 4 rfl rfl)
theorem dX2_written_6 : decode cX2_written 6 = .ok (.iaload, 1) := dk_46 (dk_at dksX2_written_0 6 rfl rfl)
theorem dX2_written_7 : decode cX2_written 7 = .ok (.bipush 60, 2) := dk_16 60 (dk_at dksX2_written_0 7 rfl rfl)
theorem dX2_written_9 : decode cX2_written 9 = .ok (.if_icmp .ge 13, 3) := dk_162 0 13 (dk_at dksX2_written_0 9 rfl rfl)
theorem dX2_written_12 : decode cX2_written 12 = .ok (.aload_n 0, 1) := dk_42 (dk_at dksX2_written_0 12 rfl rfl)
theorem dX2_written_13 : decode cX2_written 13 = .ok (.getfield 7, 3) := dk_180 0 7 (dk_at dksX2_written_0 13 rfl rfl)
theorem dX2_written_16 : decode cX2_written 16 = .ok (.bipush 9, 2) := dk_16 9 (dk_at dksX2_written_0 16 rfl rfl)
theorem dX2_written_18 : decode cX2_written 18 = .ok (.iaload, 1) := dk_46 (dk_at dksX2_written_0 18 rfl rfl)
theorem dX2_written_19 : decode cX2_written 19 = .ok (.goto 5, 3) := dk_167 0 5 (dk_at dksX2_written_0 19 rfl rfl)
theorem dX2_written_22 : decode cX2_written 22 = .ok (.bipush 60, 2) := dk_16 60 (dk_at dksX2_written_0 22 rfl rfl)
theorem dX2_written_24 : decode cX2_written 24 = .ok (.istore_n 3, 1) := dk_62 (dk_at dksX2_written_1 0 rfl rfl)
theorem dX2_written_25 : decode cX2_written 25 = .ok (.iload_n 1, 1) := dk_27 (dk_at dksX2_written_1 1 rfl rfl)
theorem dX2_written_26 : decode cX2_written 26 = .ok (.iconst (-1), 1) := dk_2 (dk_at dksX2_written_1 2 rfl rfl)
theorem dX2_written_27 : decode cX2_written 27 = .ok (.if_icmp .ne 5, 3) := dk_160 0 5 (dk_at dksX2_written_1 3 rfl rfl)
theorem dX2_written_30 : decode cX2_written 30 = .ok (.iload_n 3, 1) := dk_29 (dk_at dksX2_written_1 6 rfl rfl)
theorem dX2_written_31 : decode cX2_written 31 = .ok (.ireturn, 1) := dk_172 (dk_at dksX2_written_1 7 rfl rfl)
theorem dX2_written_32 : decode cX2_written 32 = .ok (.iload_n 1, 1) := dk_27 (dk_at dksX2_written_1 8 rfl rfl)
theorem dX2_written_33 : decode cX2_written 33 = .ok (.iconst 0, 1) := dk_3 (dk_at dksX2_written_1 9 rfl rfl)
theorem dX2_written_34 : decode cX2_written 34 = .ok (.iload_n 3, 1) := dk_29 (dk_at dksX2_written_1 10 rfl rfl)
theorem dX2_written_35 : decode cX2_written 35 = .ok (.iconst 1, 1) := dk_4 (dk_at dksX2_written_1 11 rfl rfl)
theorem dX2_written_36 : decode cX2_written 36 = .ok (.isub, 1) := dk_100 (dk_at dksX2_written_1 12 rfl rfl)
theorem dX2_written_37 : decode cX2_written 37 = .ok (.invokestatic 89, 3) := dk_184 0 89 (dk_at dksX2_written_1 13 rfl rfl)
theorem dX2_written_40 : decode cX2_written 40 = .ok (.ifCond .eq 12, 3) := dk_153 0 12 (dk_at dksX2_written_1 16 rfl rfl)
theorem dX2_written_43 : decode cX2_written 43 = .ok (.iload_n 2, 1) := dk_28 (dk_at dksX2_written_1 19 rfl rfl)
theorem dX2_written_44 : decode cX2_written 44 = .ok (.iconst 0, 1) := dk_3 (dk_at dksX2_written_1 20 rfl rfl)
theorem dX2_written_45 : decode cX2_written 45 = .ok (.iconst 3, 1) := dk_6 (dk_at dksX2_written_1 21 rfl rfl)
theorem dX2_written_46 : decode cX2_written 46 = .ok (.invokestatic 89, 3) := dk_184 0 89 (dk_at dksX2_written_2 0 rfl rfl)
theorem dX2_written_49 : decode cX2_written 49 = .ok (.ifCond .ne 6, 3) := dk_154 0 6 (dk_at dksX2_written_2 3 rfl rfl)
theorem dX2_written_52 : decode cX2_written 52 = .ok (.bipush (-2), 2) := dk_16 254 (dk_at dksX2_written_2 6 rfl rfl)
theorem dX2_written_54 : decode cX2_written 54 = .ok (.ireturn, 1) := dk_172 (dk_at dksX2_written_2 8 rfl rfl)
theorem dX2_written_55 : decode cX2_written 55 = .ok (.aload_n 0, 1) := dk_42 (dk_at dksX2_written_2 9 rfl rfl)
theorem dX2_written_56 : decode cX2_written 56 = .ok (.getfield 7, 3) := dk_180 0 7 (dk_at dksX2_written_2 10 rfl rfl)
theorem dX2_written_59 : decode cX2_written 59 = .ok (.sipush 1594, 3) := dk_17 6 58 (dk_at dksX2_written_2 13 rfl rfl)
theorem dX2_written_62 : decode cX2_written 62 = .ok (.iconst 4, 1) := dk_7 (dk_at dksX2_written_2 16 rfl rfl)
theorem dX2_written_63 : decode cX2_written 63 = .ok (.aload_n 0, 1) := dk_42 (dk_at dksX2_written_2 17 rfl rfl)
theorem dX2_written_64 : decode cX2_written 64 = .ok (.getfield 7, 3) := dk_180 0 7 (dk_at dksX2_written_2 18 rfl rfl)
theorem dX2_written_67 : decode cX2_written 67 = .ok (.bipush 9, 2) := dk_16 9 (dk_at dksX2_written_2 21 rfl rfl)
theorem dX2_written_69 : decode cX2_written 69 = .ok (.iaload, 1) := dk_46 (dk_at dksX2_written_2 23 rfl rfl)
theorem dX2_written_70 : decode cX2_written 70 = .ok (.iload_n 3, 1) := dk_29 (dk_at dksX2_written_3 0 rfl rfl)
theorem dX2_written_71 : decode cX2_written 71 = .ok (.isub, 1) := dk_100 (dk_at dksX2_written_3 1 rfl rfl)
theorem dX2_written_72 : decode cX2_written 72 = .ok (.iload_n 1, 1) := dk_27 (dk_at dksX2_written_3 2 rfl rfl)
theorem dX2_written_73 : decode cX2_written 73 = .ok (.iadd, 1) := dk_96 (dk_at dksX2_written_3 3 rfl rfl)
theorem dX2_written_74 : decode cX2_written 74 = .ok (.sipush 512, 3) := dk_17 2 0 (dk_at dksX2_written_3 4 rfl rfl)
theorem dX2_written_77 : decode cX2_written 77 = .ok (.irem, 1) := dk_112 (dk_at dksX2_written_3 7 rfl rfl)
theorem dX2_written_78 : decode cX2_written 78 = .ok (.imul, 1) := dk_104 (dk_at dksX2_written_3 8 rfl rfl)
theorem dX2_written_79 : decode cX2_written 79 = .ok (.iadd, 1) := dk_96 (dk_at dksX2_written_3 9 rfl rfl)
theorem dX2_written_80 : decode cX2_written 80 = .ok (.iload_n 2, 1) := dk_28 (dk_at dksX2_written_3 10 rfl rfl)
theorem dX2_written_81 : decode cX2_written 81 = .ok (.iadd, 1) := dk_96 (dk_at dksX2_written_3 11 rfl rfl)
theorem dX2_written_82 : decode cX2_written 82 = .ok (.iaload, 1) := dk_46 (dk_at dksX2_written_3 12 rfl rfl)
theorem dX2_written_83 : decode cX2_written 83 = .ok (.ireturn, 1) := dk_172 (dk_at dksX2_written_3 13 rfl rfl)
abbrev MX2_written : jjM := (yX2_written, cX2_written, 4, (Option.some Jvm.ClassFile.FieldType.int))
theorem npX2_written : yX2_written.cls ≠ "java/lang/invoke/MethodHandle" ∧ yX2_written.cls ≠ "java/lang/invoke/VarHandle" ∧ (parseMethodDescriptor yX2_written.desc).map (fun d => d.parameters.length) = some 2 := by decide +kernel
abbrev cX2_rest : ByteArray := prog_17_method_100_code
def yX2_rest : MethodName := ⟨RX2, "rest", "(I)I"⟩
def dkwX2_rest_0 : List UInt8 := [27, 184, 1, 54, 154, 0, 5, 2, 172, 42, 27, 2, 182, 1, 144, 42, 182, 1, 147, 172]
abbrev dktX2_rest_0 : List UInt8 := dkwX2_rest_0 ++ []
theorem dksX2_rest_0 : cX2_rest.data.toList.drop 0 = dktX2_rest_0 := by decide +kernel
theorem dX2_rest_0 : decode cX2_rest 0 = .ok (.iload_n 1, 1) := dk_27 (dk_at dksX2_rest_0 0 rfl rfl)
theorem dX2_rest_1 : decode cX2_rest 1 = .ok (.invokestatic 310, 3) := dk_184 1 54 (dk_at dksX2_rest_0 1 rfl rfl)
theorem dX2_rest_4 : decode cX2_rest 4 = .ok (.ifCond .ne 5, 3) := dk_154 0 5 (dk_at dksX2_rest_0 4 rfl rfl)
theorem dX2_rest_7 : decode cX2_rest 7 = .ok (.iconst (-1), 1) := dk_2 (dk_at dksX2_rest_0 7 rfl rfl)
theorem dX2_rest_8 : decode cX2_rest 8 = .ok (.ireturn, 1) := dk_172 (dk_at dksX2_rest_0 8 rfl rfl)
theorem dX2_rest_9 : decode cX2_rest 9 = .ok (.aload_n 0, 1) := dk_42 (dk_at dksX2_rest_0 9 rfl rfl)
theorem dX2_rest_10 : decode cX2_rest 10 = .ok (.iload_n 1, 1) := dk_27 (dk_at dksX2_rest_0 10 rfl rfl)
theorem dX2_rest_11 : decode cX2_rest 11 = .ok (.iconst (-1), 1) := dk_2 (dk_at dksX2_rest_0 11 rfl rfl)
theorem dX2_rest_12 : decode cX2_rest 12 = .ok (.invokevirtual 400, 3) := dk_182 1 144 (dk_at dksX2_rest_0 12 rfl rfl)
theorem dX2_rest_15 : decode cX2_rest 15 = .ok (.aload_n 0, 1) := dk_42 (dk_at dksX2_rest_0 15 rfl rfl)
theorem dX2_rest_16 : decode cX2_rest 16 = .ok (.invokevirtual 403, 3) := dk_182 1 147 (dk_at dksX2_rest_0 16 rfl rfl)
theorem dX2_rest_19 : decode cX2_rest 19 = .ok (.ireturn, 1) := dk_172 (dk_at dksX2_rest_0 19 rfl rfl)
abbrev MX2_rest : jjM := (yX2_rest, cX2_rest, 2, (Option.some Jvm.ClassFile.FieldType.int))
theorem npX2_rest : yX2_rest.cls ≠ "java/lang/invoke/MethodHandle" ∧ yX2_rest.cls ≠ "java/lang/invoke/VarHandle" ∧ (parseMethodDescriptor yX2_rest.desc).map (fun d => d.parameters.length) = some 1 := by decide +kernel
abbrev cX2_layRow : ByteArray := prog_17_method_95_code
def yX2_layRow : MethodName := ⟨RX2, "layRow", "(II)V"⟩
def dkwX2_layRow_2 : List UInt8 := [182, 0, 101, 79, 42, 89, 180, 1, 132, 4, 96, 181, 1, 132, 132, 3, 1, 167, 255, 202, 177]
abbrev dktX2_layRow_2 : List UInt8 := dkwX2_layRow_2 ++ []
def dkwX2_layRow_1 : List UInt8 := [42, 27, 29, 182, 0, 101, 28, 160, 0, 6, 167, 0, 28, 42, 180, 0, 46, 42, 180, 1, 132, 42, 27, 29]
abbrev dktX2_layRow_1 : List UInt8 := dkwX2_layRow_1 ++ dktX2_layRow_2
def dkwX2_layRow_0 : List UInt8 := [42, 182, 1, 129, 42, 3, 181, 1, 132, 3, 62, 29, 42, 180, 0, 7, 16, 13, 27, 96, 46, 162, 0, 47]
abbrev dktX2_layRow_0 : List UInt8 := dkwX2_layRow_0 ++ dktX2_layRow_1
theorem dksX2_layRow_0 : cX2_layRow.data.toList.drop 0 = dktX2_layRow_0 := by decide +kernel
theorem dksX2_layRow_1 : cX2_layRow.data.toList.drop 24 = dktX2_layRow_1 := dk_seg dksX2_layRow_0 24 rfl rfl
theorem dksX2_layRow_2 : cX2_layRow.data.toList.drop 48 = dktX2_layRow_2 := dk_seg dksX2_layRow_1 24 rfl rfl
theorem dX2_layRow_0 : decode cX2_layRow 0 = .ok (.aload_n 0, 1) := dk_42 (dk_at dksX2_layRow_0 0 rfl rfl)
theorem dX2_layRow_1 : decode cX2_layRow 1 = .ok (.invokevirtual 385, 3) := dk_182 1 129 (dk_at dksX2_layRow_0 1 rfl rfl)
theorem dX2_layRow_4 : decode cX2_layRow 4 = .ok (.aload_n 0, 1) := dk_42 (dk_at dksX2_layRow_0 4 rfl rfl)
theorem dX2_layRow_5 : decode cX2_layRow 5 = .ok (.iconst 0, 1) := dk_3 (dk_at dksX2_layRow_0 5 rfl rfl)
theorem dX2_layRow_6 : decode cX2_layRow 6 = .ok (.putfield 388, 3) := dk_181 1 132 (dk_at dksX2_layRow_0 6 rfl rfl)
theorem dX2_layRow_9 : decode cX2_layRow 9 = .ok (.iconst 0, 1) := dk_3 (dk_at dksX2_layRow_0 9 rfl rfl)
theorem dX2_layRow_10 : decode cX2_layRow 10 = .ok (.istore_n 3, 1) := dk_62 (dk_at dksX2_layRow_0 10 rfl rfl)
theorem dX2_layRow_11 : decode cX2_layRow 11 = .ok (.iload_n 3, 1) := dk_29 (dk_at dksX2_layRow_0 11 rfl rfl)
theorem dX2_layRow_12 : decode cX2_layRow 12 = .ok (.aload_n 0, 1) := dk_42 (dk_at dksX2_layRow_0 12 rfl rfl)
theorem dX2_layRow_13 : decode cX2_layRow 13 = .ok (.getfield 7, 3) := dk_180 0 7 (dk_at dksX2_layRow_0 13 rfl rfl)
theorem dX2_layRow_16 : decode cX2_layRow 16 = .ok (.bipush 13, 2) := dk_16 13 (dk_at dksX2_layRow_0 16 rfl rfl)
theorem dX2_layRow_18 : decode cX2_layRow 18 = .ok (.iload_n 1, 1) := dk_27 (dk_at dksX2_layRow_0 18 rfl rfl)
theorem dX2_layRow_19 : decode cX2_layRow 19 = .ok (.iadd, 1) := dk_96 (dk_at dksX2_layRow_0 19 rfl rfl)
theorem dX2_layRow_20 : decode cX2_layRow 20 = .ok (.iaload, 1) := dk_46 (dk_at dksX2_layRow_0 20 rfl rfl)
theorem dX2_layRow_21 : decode cX2_layRow 21 = .ok (.if_icmp .ge 47, 3) := dk_162 0 47 (dk_at dksX2_layRow_0 21 rfl rfl)
theorem dX2_layRow_24 : decode cX2_layRow 24 = .ok (.aload_n 0, 1) := dk_42 (dk_at dksX2_layRow_1 0 rfl rfl)
theorem dX2_layRow_25 : decode cX2_layRow 25 = .ok (.iload_n 1, 1) := dk_27 (dk_at dksX2_layRow_1 1 rfl rfl)
theorem dX2_layRow_26 : decode cX2_layRow 26 = .ok (.iload_n 3, 1) := dk_29 (dk_at dksX2_layRow_1 2 rfl rfl)
theorem dX2_layRow_27 : decode cX2_layRow 27 = .ok (.invokevirtual 101, 3) := dk_182 0 101 (dk_at dksX2_layRow_1 3 rfl rfl)
theorem dX2_layRow_30 : decode cX2_layRow 30 = .ok (.iload_n 2, 1) := dk_28 (dk_at dksX2_layRow_1 6 rfl rfl)
theorem dX2_layRow_31 : decode cX2_layRow 31 = .ok (.if_icmp .ne 6, 3) := dk_160 0 6 (dk_at dksX2_layRow_1 7 rfl rfl)
theorem dX2_layRow_34 : decode cX2_layRow 34 = .ok (.goto 28, 3) := dk_167 0 28 (dk_at dksX2_layRow_1 10 rfl rfl)
theorem dX2_layRow_37 : decode cX2_layRow 37 = .ok (.aload_n 0, 1) := dk_42 (dk_at dksX2_layRow_1 13 rfl rfl)
theorem dX2_layRow_38 : decode cX2_layRow 38 = .ok (.getfield 46, 3) := dk_180 0 46 (dk_at dksX2_layRow_1 14 rfl rfl)
theorem dX2_layRow_41 : decode cX2_layRow 41 = .ok (.aload_n 0, 1) := dk_42 (dk_at dksX2_layRow_1 17 rfl rfl)
theorem dX2_layRow_42 : decode cX2_layRow 42 = .ok (.getfield 388, 3) := dk_180 1 132 (dk_at dksX2_layRow_1 18 rfl rfl)
theorem dX2_layRow_45 : decode cX2_layRow 45 = .ok (.aload_n 0, 1) := dk_42 (dk_at dksX2_layRow_1 21 rfl rfl)
theorem dX2_layRow_46 : decode cX2_layRow 46 = .ok (.iload_n 1, 1) := dk_27 (dk_at dksX2_layRow_1 22 rfl rfl)
theorem dX2_layRow_47 : decode cX2_layRow 47 = .ok (.iload_n 3, 1) := dk_29 (dk_at dksX2_layRow_1 23 rfl rfl)
theorem dX2_layRow_48 : decode cX2_layRow 48 = .ok (.invokevirtual 101, 3) := dk_182 0 101 (dk_at dksX2_layRow_2 0 rfl rfl)
theorem dX2_layRow_51 : decode cX2_layRow 51 = .ok (.iastore, 1) := dk_79 (dk_at dksX2_layRow_2 3 rfl rfl)
theorem dX2_layRow_52 : decode cX2_layRow 52 = .ok (.aload_n 0, 1) := dk_42 (dk_at dksX2_layRow_2 4 rfl rfl)
theorem dX2_layRow_53 : decode cX2_layRow 53 = .ok (.dup, 1) := dk_89 (dk_at dksX2_layRow_2 5 rfl rfl)
theorem dX2_layRow_54 : decode cX2_layRow 54 = .ok (.getfield 388, 3) := dk_180 1 132 (dk_at dksX2_layRow_2 6 rfl rfl)
theorem dX2_layRow_57 : decode cX2_layRow 57 = .ok (.iconst 1, 1) := dk_4 (dk_at dksX2_layRow_2 9 rfl rfl)
theorem dX2_layRow_58 : decode cX2_layRow 58 = .ok (.iadd, 1) := dk_96 (dk_at dksX2_layRow_2 10 rfl rfl)
theorem dX2_layRow_59 : decode cX2_layRow 59 = .ok (.putfield 388, 3) := dk_181 1 132 (dk_at dksX2_layRow_2 11 rfl rfl)
theorem dX2_layRow_62 : decode cX2_layRow 62 = .ok (.iinc 3 1, 3) := dk_132 3 1 (dk_at dksX2_layRow_2 14 rfl rfl)
theorem dX2_layRow_65 : decode cX2_layRow 65 = .ok (.goto (-54), 3) := dk_167 255 202 (dk_at dksX2_layRow_2 17 rfl rfl)
theorem dX2_layRow_68 : decode cX2_layRow 68 = .ok (.return_, 1) := dk_177 (dk_at dksX2_layRow_2 20 rfl rfl)
abbrev MX2_layRow : jjM := (yX2_layRow, cX2_layRow, 4, (Option.none : Option Jvm.ClassFile.FieldType))
theorem npX2_layRow : yX2_layRow.cls ≠ "java/lang/invoke/MethodHandle" ∧ yX2_layRow.cls ≠ "java/lang/invoke/VarHandle" ∧ (parseMethodDescriptor yX2_layRow.desc).map (fun d => d.parameters.length) = some 2 := by decide +kernel
abbrev cX2_findChanges : ByteArray := prog_17_method_94_code
def yX2_findChanges : MethodName := ⟨RX2, "findChanges", "()V"⟩
def dkwX2_findChanges_2 : List UInt8 := [4, 167, 0, 4, 3, 84, 132, 2, 1, 167, 255, 213, 132, 1, 1, 167, 255, 195, 177]
abbrev dktX2_findChanges_2 : List UInt8 := dkwX2_findChanges_2 ++ []
def dkwX2_findChanges_1 : List UInt8 := [42, 180, 0, 43, 16, 10, 27, 104, 28, 96, 27, 28, 159, 0, 16, 42, 27, 28, 182, 1, 63, 153, 0, 7]
abbrev dktX2_findChanges_1 : List UInt8 := dkwX2_findChanges_1 ++ dktX2_findChanges_2
def dkwX2_findChanges_0 : List UInt8 := [3, 60, 27, 42, 180, 0, 7, 3, 46, 162, 0, 57, 3, 61, 28, 42, 180, 0, 7, 3, 46, 162, 0, 39]
abbrev dktX2_findChanges_0 : List UInt8 := dkwX2_findChanges_0 ++ dktX2_findChanges_1
theorem dksX2_findChanges_0 : cX2_findChanges.data.toList.drop 0 = dktX2_findChanges_0 := by decide +kernel
theorem dksX2_findChanges_1 : cX2_findChanges.data.toList.drop 24 = dktX2_findChanges_1 := dk_seg dksX2_findChanges_0 24 rfl rfl
theorem dksX2_findChanges_2 : cX2_findChanges.data.toList.drop 48 = dktX2_findChanges_2 := dk_seg dksX2_findChanges_1 24 rfl rfl
theorem dX2_findChanges_0 : decode cX2_findChanges 0 = .ok (.iconst 0, 1) := dk_3 (dk_at dksX2_findChanges_0 0 rfl rfl)
theorem dX2_findChanges_1 : decode cX2_findChanges 1 = .ok (.istore_n 1, 1) := dk_60 (dk_at dksX2_findChanges_0 1 rfl rfl)
theorem dX2_findChanges_2 : decode cX2_findChanges 2 = .ok (.iload_n 1, 1) := dk_27 (dk_at dksX2_findChanges_0 2 rfl rfl)
theorem dX2_findChanges_3 : decode cX2_findChanges 3 = .ok (.aload_n 0, 1) := dk_42 (dk_at dksX2_findChanges_0 3 rfl rfl)
theorem dX2_findChanges_4 : decode cX2_findChanges 4 = .ok (.getfield 7, 3) := dk_180 0 7 (dk_at dksX2_findChanges_0 4 rfl rfl)
theorem dX2_findChanges_7 : decode cX2_findChanges 7 = .ok (.iconst 0, 1) := dk_3 (dk_at dksX2_findChanges_0 7 rfl rfl)
theorem dX2_findChanges_8 : decode cX2_findChanges 8 = .ok (.iaload, 1) := dk_46 (dk_at dksX2_findChanges_0 8 rfl rfl)
theorem dX2_findChanges_9 : decode cX2_findChanges 9 = .ok (.if_icmp .ge 57, 3) := dk_162 0 57 (dk_at dksX2_findChanges_0 9 rfl rfl)
theorem dX2_findChanges_12 : decode cX2_findChanges 12 = .ok (.iconst 0, 1) := dk_3 (dk_at dksX2_findChanges_0 12 rfl rfl)
theorem dX2_findChanges_13 : decode cX2_findChanges 13 = .ok (.istore_n 2, 1) := dk_61 (dk_at dksX2_findChanges_0 13 rfl rfl)
theorem dX2_findChanges_14 : decode cX2_findChanges 14 = .ok (.iload_n 2, 1) := dk_28 (dk_at dksX2_findChanges_0 14 rfl rfl)
theorem dX2_findChanges_15 : decode cX2_findChanges 15 = .ok (.aload_n 0, 1) := dk_42 (dk_at dksX2_findChanges_0 15 rfl rfl)
theorem dX2_findChanges_16 : decode cX2_findChanges 16 = .ok (.getfield 7, 3) := dk_180 0 7 (dk_at dksX2_findChanges_0 16 rfl rfl)
theorem dX2_findChanges_19 : decode cX2_findChanges 19 = .ok (.iconst 0, 1) := dk_3 (dk_at dksX2_findChanges_0 19 rfl rfl)
theorem dX2_findChanges_20 : decode cX2_findChanges 20 = .ok (.iaload, 1) := dk_46 (dk_at dksX2_findChanges_0 20 rfl rfl)
theorem dX2_findChanges_21 : decode cX2_findChanges 21 = .ok (.if_icmp .ge 39, 3) := dk_162 0 39 (dk_at dksX2_findChanges_0 21 rfl rfl)
theorem dX2_findChanges_24 : decode cX2_findChanges 24 = .ok (.aload_n 0, 1) := dk_42 (dk_at dksX2_findChanges_1 0 rfl rfl)
theorem dX2_findChanges_25 : decode cX2_findChanges 25 = .ok (.getfield 43, 3) := dk_180 0 43 (dk_at dksX2_findChanges_1 1 rfl rfl)
theorem dX2_findChanges_28 : decode cX2_findChanges 28 = .ok (.bipush 10, 2) := dk_16 10 (dk_at dksX2_findChanges_1 4 rfl rfl)
theorem dX2_findChanges_30 : decode cX2_findChanges 30 = .ok (.iload_n 1, 1) := dk_27 (dk_at dksX2_findChanges_1 6 rfl rfl)
theorem dX2_findChanges_31 : decode cX2_findChanges 31 = .ok (.imul, 1) := dk_104 (dk_at dksX2_findChanges_1 7 rfl rfl)
theorem dX2_findChanges_32 : decode cX2_findChanges 32 = .ok (.iload_n 2, 1) := dk_28 (dk_at dksX2_findChanges_1 8 rfl rfl)
theorem dX2_findChanges_33 : decode cX2_findChanges 33 = .ok (.iadd, 1) := dk_96 (dk_at dksX2_findChanges_1 9 rfl rfl)
theorem dX2_findChanges_34 : decode cX2_findChanges 34 = .ok (.iload_n 1, 1) := dk_27 (dk_at dksX2_findChanges_1 10 rfl rfl)
theorem dX2_findChanges_35 : decode cX2_findChanges 35 = .ok (.iload_n 2, 1) := dk_28 (dk_at dksX2_findChanges_1 11 rfl rfl)
theorem dX2_findChanges_36 : decode cX2_findChanges 36 = .ok (.if_icmp .eq 16, 3) := dk_159 0 16 (dk_at dksX2_findChanges_1 12 rfl rfl)
theorem dX2_findChanges_39 : decode cX2_findChanges 39 = .ok (.aload_n 0, 1) := dk_42 (dk_at dksX2_findChanges_1 15 rfl rfl)
theorem dX2_findChanges_40 : decode cX2_findChanges 40 = .ok (.iload_n 1, 1) := dk_27 (dk_at dksX2_findChanges_1 16 rfl rfl)
theorem dX2_findChanges_41 : decode cX2_findChanges 41 = .ok (.iload_n 2, 1) := dk_28 (dk_at dksX2_findChanges_1 17 rfl rfl)
theorem dX2_findChanges_42 : decode cX2_findChanges 42 = .ok (.invokevirtual 319, 3) := dk_182 1 63 (dk_at dksX2_findChanges_1 18 rfl rfl)
theorem dX2_findChanges_45 : decode cX2_findChanges 45 = .ok (.ifCond .eq 7, 3) := dk_153 0 7 (dk_at dksX2_findChanges_1 21 rfl rfl)
theorem dX2_findChanges_48 : decode cX2_findChanges 48 = .ok (.iconst 1, 1) := dk_4 (dk_at dksX2_findChanges_2 0 rfl rfl)
theorem dX2_findChanges_49 : decode cX2_findChanges 49 = .ok (.goto 4, 3) := dk_167 0 4 (dk_at dksX2_findChanges_2 1 rfl rfl)
theorem dX2_findChanges_52 : decode cX2_findChanges 52 = .ok (.iconst 0, 1) := dk_3 (dk_at dksX2_findChanges_2 4 rfl rfl)
theorem dX2_findChanges_53 : decode cX2_findChanges 53 = .ok (.bastore, 1) := dk_84 (dk_at dksX2_findChanges_2 5 rfl rfl)
theorem dX2_findChanges_54 : decode cX2_findChanges 54 = .ok (.iinc 2 1, 3) := dk_132 2 1 (dk_at dksX2_findChanges_2 6 rfl rfl)
theorem dX2_findChanges_57 : decode cX2_findChanges 57 = .ok (.goto (-43), 3) := dk_167 255 213 (dk_at dksX2_findChanges_2 9 rfl rfl)
theorem dX2_findChanges_60 : decode cX2_findChanges 60 = .ok (.iinc 1 1, 3) := dk_132 1 1 (dk_at dksX2_findChanges_2 12 rfl rfl)
theorem dX2_findChanges_63 : decode cX2_findChanges 63 = .ok (.goto (-61), 3) := dk_167 255 195 (dk_at dksX2_findChanges_2 15 rfl rfl)
theorem dX2_findChanges_66 : decode cX2_findChanges 66 = .ok (.return_, 1) := dk_177 (dk_at dksX2_findChanges_2 18 rfl rfl)
abbrev MX2_findChanges : jjM := (yX2_findChanges, cX2_findChanges, 3, (Option.none : Option Jvm.ClassFile.FieldType))
theorem npX2_findChanges : yX2_findChanges.cls ≠ "java/lang/invoke/MethodHandle" ∧ yX2_findChanges.cls ≠ "java/lang/invoke/VarHandle" ∧ (parseMethodDescriptor yX2_findChanges.desc).map (fun d => d.parameters.length) = some 0 := by decide +kernel
abbrev cX2_goToRest : ByteArray := prog_17_method_99_code
def yX2_goToRest : MethodName := ⟨RX2, "goToRest", "()I"⟩
def dkwX2_goToRest_1 : List UInt8 := [46, 27, 96, 5, 112, 182, 1, 141, 132, 1, 1, 167, 255, 223, 2, 172]
abbrev dktX2_goToRest_1 : List UInt8 := dkwX2_goToRest_1 ++ []
def dkwX2_goToRest_0 : List UInt8 := [3, 60, 27, 17, 1, 244, 163, 0, 32, 42, 182, 1, 138, 153, 0, 5, 27, 172, 42, 42, 180, 0, 7, 4]
abbrev dktX2_goToRest_0 : List UInt8 := dkwX2_goToRest_0 ++ dktX2_goToRest_1
theorem dksX2_goToRest_0 : cX2_goToRest.data.toList.drop 0 = dktX2_goToRest_0 := by decide +kernel
theorem dksX2_goToRest_1 : cX2_goToRest.data.toList.drop 24 = dktX2_goToRest_1 := dk_seg dksX2_goToRest_0 24 rfl rfl
theorem dX2_goToRest_0 : decode cX2_goToRest 0 = .ok (.iconst 0, 1) := dk_3 (dk_at dksX2_goToRest_0 0 rfl rfl)
theorem dX2_goToRest_1 : decode cX2_goToRest 1 = .ok (.istore_n 1, 1) := dk_60 (dk_at dksX2_goToRest_0 1 rfl rfl)
theorem dX2_goToRest_2 : decode cX2_goToRest 2 = .ok (.iload_n 1, 1) := dk_27 (dk_at dksX2_goToRest_0 2 rfl rfl)
theorem dX2_goToRest_3 : decode cX2_goToRest 3 = .ok (.sipush 500, 3) := dk_17 1 244 (dk_at dksX2_goToRest_0 3 rfl rfl)
theorem dX2_goToRest_6 : decode cX2_goToRest 6 = .ok (.if_icmp .gt 32, 3) := dk_163 0 32 (dk_at dksX2_goToRest_0 6 rfl rfl)
theorem dX2_goToRest_9 : decode cX2_goToRest 9 = .ok (.aload_n 0, 1) := dk_42 (dk_at dksX2_goToRest_0 9 rfl rfl)
theorem dX2_goToRest_10 : decode cX2_goToRest 10 = .ok (.invokevirtual 394, 3) := dk_182 1 138 (dk_at dksX2_goToRest_0 10 rfl rfl)
theorem dX2_goToRest_13 : decode cX2_goToRest 13 = .ok (.ifCond .eq 5, 3) := dk_153 0 5 (dk_at dksX2_goToRest_0 13 rfl rfl)
theorem dX2_goToRest_16 : decode cX2_goToRest 16 = .ok (.iload_n 1, 1) := dk_27 (dk_at dksX2_goToRest_0 16 rfl rfl)
theorem dX2_goToRest_17 : decode cX2_goToRest 17 = .ok (.ireturn, 1) := dk_172 (dk_at dksX2_goToRest_0 17 rfl rfl)
theorem dX2_goToRest_18 : decode cX2_goToRest 18 = .ok (.aload_n 0, 1) := dk_42 (dk_at dksX2_goToRest_0 18 rfl rfl)
theorem dX2_goToRest_19 : decode cX2_goToRest 19 = .ok (.aload_n 0, 1) := dk_42 (dk_at dksX2_goToRest_0 19 rfl rfl)
theorem dX2_goToRest_20 : decode cX2_goToRest 20 = .ok (.getfield 7, 3) := dk_180 0 7 (dk_at dksX2_goToRest_0 20 rfl rfl)
theorem dX2_goToRest_23 : decode cX2_goToRest 23 = .ok (.iconst 1, 1) := dk_4 (dk_at dksX2_goToRest_0 23 rfl rfl)
theorem dX2_goToRest_24 : decode cX2_goToRest 24 = .ok (.iaload, 1) := dk_46 (dk_at dksX2_goToRest_1 0 rfl rfl)
theorem dX2_goToRest_25 : decode cX2_goToRest 25 = .ok (.iload_n 1, 1) := dk_27 (dk_at dksX2_goToRest_1 1 rfl rfl)
theorem dX2_goToRest_26 : decode cX2_goToRest 26 = .ok (.iadd, 1) := dk_96 (dk_at dksX2_goToRest_1 2 rfl rfl)
theorem dX2_goToRest_27 : decode cX2_goToRest 27 = .ok (.iconst 2, 1) := dk_5 (dk_at dksX2_goToRest_1 3 rfl rfl)
theorem dX2_goToRest_28 : decode cX2_goToRest 28 = .ok (.irem, 1) := dk_112 (dk_at dksX2_goToRest_1 4 rfl rfl)
theorem dX2_goToRest_29 : decode cX2_goToRest 29 = .ok (.invokevirtual 397, 3) := dk_182 1 141 (dk_at dksX2_goToRest_1 5 rfl rfl)
theorem dX2_goToRest_32 : decode cX2_goToRest 32 = .ok (.iinc 1 1, 3) := dk_132 1 1 (dk_at dksX2_goToRest_1 8 rfl rfl)
theorem dX2_goToRest_35 : decode cX2_goToRest 35 = .ok (.goto (-33), 3) := dk_167 255 223 (dk_at dksX2_goToRest_1 11 rfl rfl)
theorem dX2_goToRest_38 : decode cX2_goToRest 38 = .ok (.iconst (-1), 1) := dk_2 (dk_at dksX2_goToRest_1 14 rfl rfl)
theorem dX2_goToRest_39 : decode cX2_goToRest 39 = .ok (.ireturn, 1) := dk_172 (dk_at dksX2_goToRest_1 15 rfl rfl)
abbrev MX2_goToRest : jjM := (yX2_goToRest, cX2_goToRest, 2, (Option.some Jvm.ClassFile.FieldType.int))
theorem npX2_goToRest : yX2_goToRest.cls ≠ "java/lang/invoke/MethodHandle" ∧ yX2_goToRest.cls ≠ "java/lang/invoke/VarHandle" ∧ (parseMethodDescriptor yX2_goToRest.desc).map (fun d => d.parameters.length) = some 0 := by decide +kernel
abbrev cX2_isCalm : ByteArray := prog_17_method_96_code
def yX2_isCalm : MethodName := ⟨RX2, "isCalm", "()Z"⟩
def dkwX2_isCalm_1 : List UInt8 := [104, 42, 180, 0, 46, 27, 4, 96, 46, 96, 51, 153, 0, 5, 3, 172, 132, 1, 1, 167, 255, 215, 4, 172]
abbrev dktX2_isCalm_1 : List UInt8 := dkwX2_isCalm_1 ++ []
def dkwX2_isCalm_0 : List UInt8 := [3, 60, 27, 4, 96, 42, 180, 1, 132, 162, 0, 37, 42, 180, 0, 43, 16, 10, 42, 180, 0, 46, 27, 46]
abbrev dktX2_isCalm_0 : List UInt8 := dkwX2_isCalm_0 ++ dktX2_isCalm_1
theorem dksX2_isCalm_0 : cX2_isCalm.data.toList.drop 0 = dktX2_isCalm_0 := by decide +kernel
theorem dksX2_isCalm_1 : cX2_isCalm.data.toList.drop 24 = dktX2_isCalm_1 := dk_seg dksX2_isCalm_0 24 rfl rfl
theorem dX2_isCalm_0 : decode cX2_isCalm 0 = .ok (.iconst 0, 1) := dk_3 (dk_at dksX2_isCalm_0 0 rfl rfl)
theorem dX2_isCalm_1 : decode cX2_isCalm 1 = .ok (.istore_n 1, 1) := dk_60 (dk_at dksX2_isCalm_0 1 rfl rfl)
theorem dX2_isCalm_2 : decode cX2_isCalm 2 = .ok (.iload_n 1, 1) := dk_27 (dk_at dksX2_isCalm_0 2 rfl rfl)
theorem dX2_isCalm_3 : decode cX2_isCalm 3 = .ok (.iconst 1, 1) := dk_4 (dk_at dksX2_isCalm_0 3 rfl rfl)
theorem dX2_isCalm_4 : decode cX2_isCalm 4 = .ok (.iadd, 1) := dk_96 (dk_at dksX2_isCalm_0 4 rfl rfl)
theorem dX2_isCalm_5 : decode cX2_isCalm 5 = .ok (.aload_n 0, 1) := dk_42 (dk_at dksX2_isCalm_0 5 rfl rfl)
theorem dX2_isCalm_6 : decode cX2_isCalm 6 = .ok (.getfield 388, 3) := dk_180 1 132 (dk_at dksX2_isCalm_0 6 rfl rfl)
theorem dX2_isCalm_9 : decode cX2_isCalm 9 = .ok (.if_icmp .ge 37, 3) := dk_162 0 37 (dk_at dksX2_isCalm_0 9 rfl rfl)
theorem dX2_isCalm_12 : decode cX2_isCalm 12 = .ok (.aload_n 0, 1) := dk_42 (dk_at dksX2_isCalm_0 12 rfl rfl)
theorem dX2_isCalm_13 : decode cX2_isCalm 13 = .ok (.getfield 43, 3) := dk_180 0 43 (dk_at dksX2_isCalm_0 13 rfl rfl)
theorem dX2_isCalm_16 : decode cX2_isCalm 16 = .ok (.bipush 10, 2) := dk_16 10 (dk_at dksX2_isCalm_0 16 rfl rfl)
theorem dX2_isCalm_18 : decode cX2_isCalm 18 = .ok (.aload_n 0, 1) := dk_42 (dk_at dksX2_isCalm_0 18 rfl rfl)
theorem dX2_isCalm_19 : decode cX2_isCalm 19 = .ok (.getfield 46, 3) := dk_180 0 46 (dk_at dksX2_isCalm_0 19 rfl rfl)
theorem dX2_isCalm_22 : decode cX2_isCalm 22 = .ok (.iload_n 1, 1) := dk_27 (dk_at dksX2_isCalm_0 22 rfl rfl)
theorem dX2_isCalm_23 : decode cX2_isCalm 23 = .ok (.iaload, 1) := dk_46 (dk_at dksX2_isCalm_0 23 rfl rfl)
theorem dX2_isCalm_24 : decode cX2_isCalm 24 = .ok (.imul, 1) := dk_104 (dk_at dksX2_isCalm_1 0 rfl rfl)
theorem dX2_isCalm_25 : decode cX2_isCalm 25 = .ok (.aload_n 0, 1) := dk_42 (dk_at dksX2_isCalm_1 1 rfl rfl)
theorem dX2_isCalm_26 : decode cX2_isCalm 26 = .ok (.getfield 46, 3) := dk_180 0 46 (dk_at dksX2_isCalm_1 2 rfl rfl)
theorem dX2_isCalm_29 : decode cX2_isCalm 29 = .ok (.iload_n 1, 1) := dk_27 (dk_at dksX2_isCalm_1 5 rfl rfl)
theorem dX2_isCalm_30 : decode cX2_isCalm 30 = .ok (.iconst 1, 1) := dk_4 (dk_at dksX2_isCalm_1 6 rfl rfl)
theorem dX2_isCalm_31 : decode cX2_isCalm 31 = .ok (.iadd, 1) := dk_96 (dk_at dksX2_isCalm_1 7 rfl rfl)
theorem dX2_isCalm_32 : decode cX2_isCalm 32 = .ok (.iaload, 1) := dk_46 (dk_at dksX2_isCalm_1 8 rfl rfl)
theorem dX2_isCalm_33 : decode cX2_isCalm 33 = .ok (.iadd, 1) := dk_96 (dk_at dksX2_isCalm_1 9 rfl rfl)
theorem dX2_isCalm_34 : decode cX2_isCalm 34 = .ok (.baload, 1) := dk_51 (dk_at dksX2_isCalm_1 10 rfl rfl)
theorem dX2_isCalm_35 : decode cX2_isCalm 35 = .ok (.ifCond .eq 5, 3) := dk_153 0 5 (dk_at dksX2_isCalm_1 11 rfl rfl)
theorem dX2_isCalm_38 : decode cX2_isCalm 38 = .ok (.iconst 0, 1) := dk_3 (dk_at dksX2_isCalm_1 14 rfl rfl)
theorem dX2_isCalm_39 : decode cX2_isCalm 39 = .ok (.ireturn, 1) := dk_172 (dk_at dksX2_isCalm_1 15 rfl rfl)
theorem dX2_isCalm_40 : decode cX2_isCalm 40 = .ok (.iinc 1 1, 3) := dk_132 1 1 (dk_at dksX2_isCalm_1 16 rfl rfl)
theorem dX2_isCalm_43 : decode cX2_isCalm 43 = .ok (.goto (-41), 3) := dk_167 255 215 (dk_at dksX2_isCalm_1 19 rfl rfl)
theorem dX2_isCalm_46 : decode cX2_isCalm 46 = .ok (.iconst 1, 1) := dk_4 (dk_at dksX2_isCalm_1 22 rfl rfl)
theorem dX2_isCalm_47 : decode cX2_isCalm 47 = .ok (.ireturn, 1) := dk_172 (dk_at dksX2_isCalm_1 23 rfl rfl)
abbrev MX2_isCalm : jjM := (yX2_isCalm, cX2_isCalm, 2, (Option.some Jvm.ClassFile.FieldType.boolean))
theorem npX2_isCalm : yX2_isCalm.cls ≠ "java/lang/invoke/MethodHandle" ∧ yX2_isCalm.cls ≠ "java/lang/invoke/VarHandle" ∧ (parseMethodDescriptor yX2_isCalm.desc).map (fun d => d.parameters.length) = some 0 := by decide +kernel
abbrev cX2_nightOn : ByteArray := prog_17_method_98_code
def yX2_nightOn : MethodName := ⟨RX2, "nightOn", "(I)V"⟩
def dkwX2_nightOn_2 : List UInt8 := [167, 255, 212, 177]
abbrev dktX2_nightOn_2 : List UInt8 := dkwX2_nightOn_2 ++ []
def dkwX2_nightOn_1 : List UInt8 := [104, 42, 180, 0, 46, 28, 4, 96, 46, 96, 51, 153, 0, 8, 42, 28, 182, 1, 135, 132, 2, 2]
abbrev dktX2_nightOn_1 : List UInt8 := dkwX2_nightOn_1 ++ dktX2_nightOn_2
def dkwX2_nightOn_0 : List UInt8 := [27, 61, 28, 4, 96, 42, 180, 1, 132, 162, 0, 40, 42, 180, 0, 43, 16, 10, 42, 180, 0, 46, 28, 46]
abbrev dktX2_nightOn_0 : List UInt8 := dkwX2_nightOn_0 ++ dktX2_nightOn_1
theorem dksX2_nightOn_0 : cX2_nightOn.data.toList.drop 0 = dktX2_nightOn_0 := by decide +kernel
theorem dksX2_nightOn_1 : cX2_nightOn.data.toList.drop 24 = dktX2_nightOn_1 := dk_seg dksX2_nightOn_0 24 rfl rfl
theorem dksX2_nightOn_2 : cX2_nightOn.data.toList.drop 46 = dktX2_nightOn_2 := dk_seg dksX2_nightOn_1 22 rfl rfl
theorem dX2_nightOn_0 : decode cX2_nightOn 0 = .ok (.iload_n 1, 1) := dk_27 (dk_at dksX2_nightOn_0 0 rfl rfl)
theorem dX2_nightOn_1 : decode cX2_nightOn 1 = .ok (.istore_n 2, 1) := dk_61 (dk_at dksX2_nightOn_0 1 rfl rfl)
theorem dX2_nightOn_2 : decode cX2_nightOn 2 = .ok (.iload_n 2, 1) := dk_28 (dk_at dksX2_nightOn_0 2 rfl rfl)
theorem dX2_nightOn_3 : decode cX2_nightOn 3 = .ok (.iconst 1, 1) := dk_4 (dk_at dksX2_nightOn_0 3 rfl rfl)
theorem dX2_nightOn_4 : decode cX2_nightOn 4 = .ok (.iadd, 1) := dk_96 (dk_at dksX2_nightOn_0 4 rfl rfl)
theorem dX2_nightOn_5 : decode cX2_nightOn 5 = .ok (.aload_n 0, 1) := dk_42 (dk_at dksX2_nightOn_0 5 rfl rfl)
theorem dX2_nightOn_6 : decode cX2_nightOn 6 = .ok (.getfield 388, 3) := dk_180 1 132 (dk_at dksX2_nightOn_0 6 rfl rfl)
theorem dX2_nightOn_9 : decode cX2_nightOn 9 = .ok (.if_icmp .ge 40, 3) := dk_162 0 40 (dk_at dksX2_nightOn_0 9 rfl rfl)
theorem dX2_nightOn_12 : decode cX2_nightOn 12 = .ok (.aload_n 0, 1) := dk_42 (dk_at dksX2_nightOn_0 12 rfl rfl)
theorem dX2_nightOn_13 : decode cX2_nightOn 13 = .ok (.getfield 43, 3) := dk_180 0 43 (dk_at dksX2_nightOn_0 13 rfl rfl)
theorem dX2_nightOn_16 : decode cX2_nightOn 16 = .ok (.bipush 10, 2) := dk_16 10 (dk_at dksX2_nightOn_0 16 rfl rfl)
theorem dX2_nightOn_18 : decode cX2_nightOn 18 = .ok (.aload_n 0, 1) := dk_42 (dk_at dksX2_nightOn_0 18 rfl rfl)
theorem dX2_nightOn_19 : decode cX2_nightOn 19 = .ok (.getfield 46, 3) := dk_180 0 46 (dk_at dksX2_nightOn_0 19 rfl rfl)
theorem dX2_nightOn_22 : decode cX2_nightOn 22 = .ok (.iload_n 2, 1) := dk_28 (dk_at dksX2_nightOn_0 22 rfl rfl)
theorem dX2_nightOn_23 : decode cX2_nightOn 23 = .ok (.iaload, 1) := dk_46 (dk_at dksX2_nightOn_0 23 rfl rfl)
theorem dX2_nightOn_24 : decode cX2_nightOn 24 = .ok (.imul, 1) := dk_104 (dk_at dksX2_nightOn_1 0 rfl rfl)
theorem dX2_nightOn_25 : decode cX2_nightOn 25 = .ok (.aload_n 0, 1) := dk_42 (dk_at dksX2_nightOn_1 1 rfl rfl)
theorem dX2_nightOn_26 : decode cX2_nightOn 26 = .ok (.getfield 46, 3) := dk_180 0 46 (dk_at dksX2_nightOn_1 2 rfl rfl)
theorem dX2_nightOn_29 : decode cX2_nightOn 29 = .ok (.iload_n 2, 1) := dk_28 (dk_at dksX2_nightOn_1 5 rfl rfl)
theorem dX2_nightOn_30 : decode cX2_nightOn 30 = .ok (.iconst 1, 1) := dk_4 (dk_at dksX2_nightOn_1 6 rfl rfl)
theorem dX2_nightOn_31 : decode cX2_nightOn 31 = .ok (.iadd, 1) := dk_96 (dk_at dksX2_nightOn_1 7 rfl rfl)
theorem dX2_nightOn_32 : decode cX2_nightOn 32 = .ok (.iaload, 1) := dk_46 (dk_at dksX2_nightOn_1 8 rfl rfl)
theorem dX2_nightOn_33 : decode cX2_nightOn 33 = .ok (.iadd, 1) := dk_96 (dk_at dksX2_nightOn_1 9 rfl rfl)
theorem dX2_nightOn_34 : decode cX2_nightOn 34 = .ok (.baload, 1) := dk_51 (dk_at dksX2_nightOn_1 10 rfl rfl)
theorem dX2_nightOn_35 : decode cX2_nightOn 35 = .ok (.ifCond .eq 8, 3) := dk_153 0 8 (dk_at dksX2_nightOn_1 11 rfl rfl)
theorem dX2_nightOn_38 : decode cX2_nightOn 38 = .ok (.aload_n 0, 1) := dk_42 (dk_at dksX2_nightOn_1 14 rfl rfl)
theorem dX2_nightOn_39 : decode cX2_nightOn 39 = .ok (.iload_n 2, 1) := dk_28 (dk_at dksX2_nightOn_1 15 rfl rfl)
theorem dX2_nightOn_40 : decode cX2_nightOn 40 = .ok (.invokevirtual 391, 3) := dk_182 1 135 (dk_at dksX2_nightOn_1 16 rfl rfl)
theorem dX2_nightOn_43 : decode cX2_nightOn 43 = .ok (.iinc 2 2, 3) := dk_132 2 2 (dk_at dksX2_nightOn_1 19 rfl rfl)
theorem dX2_nightOn_46 : decode cX2_nightOn 46 = .ok (.goto (-44), 3) := dk_167 255 212 (dk_at dksX2_nightOn_2 0 rfl rfl)
theorem dX2_nightOn_49 : decode cX2_nightOn 49 = .ok (.return_, 1) := dk_177 (dk_at dksX2_nightOn_2 3 rfl rfl)
abbrev MX2_nightOn : jjM := (yX2_nightOn, cX2_nightOn, 3, (Option.none : Option Jvm.ClassFile.FieldType))
theorem npX2_nightOn : yX2_nightOn.cls ≠ "java/lang/invoke/MethodHandle" ∧ yX2_nightOn.cls ≠ "java/lang/invoke/VarHandle" ∧ (parseMethodDescriptor yX2_nightOn.desc).map (fun d => d.parameters.length) = some 1 := by decide +kernel
abbrev cX2_swapRow : ByteArray := prog_17_method_97_code
def yX2_swapRow : MethodName := ⟨RX2, "swapRow", "(I)V"⟩
def dkwX2_swapRow_1 : List UInt8 := [180, 0, 46, 27, 4, 96, 28, 79, 177]
abbrev dktX2_swapRow_1 : List UInt8 := dkwX2_swapRow_1 ++ []
def dkwX2_swapRow_0 : List UInt8 := [42, 180, 0, 46, 27, 46, 61, 42, 180, 0, 46, 27, 42, 180, 0, 46, 27, 4, 96, 46, 79, 42]
abbrev dktX2_swapRow_0 : List UInt8 := dkwX2_swapRow_0 ++ dktX2_swapRow_1
theorem dksX2_swapRow_0 : cX2_swapRow.data.toList.drop 0 = dktX2_swapRow_0 := by decide +kernel
theorem dksX2_swapRow_1 : cX2_swapRow.data.toList.drop 22 = dktX2_swapRow_1 := dk_seg dksX2_swapRow_0 22 rfl rfl
theorem dX2_swapRow_0 : decode cX2_swapRow 0 = .ok (.aload_n 0, 1) := dk_42 (dk_at dksX2_swapRow_0 0 rfl rfl)
theorem dX2_swapRow_1 : decode cX2_swapRow 1 = .ok (.getfield 46, 3) := dk_180 0 46 (dk_at dksX2_swapRow_0 1 rfl rfl)
theorem dX2_swapRow_4 : decode cX2_swapRow 4 = .ok (.iload_n 1, 1) := dk_27 (dk_at dksX2_swapRow_0 4 rfl rfl)
theorem dX2_swapRow_5 : decode cX2_swapRow 5 = .ok (.iaload, 1) := dk_46 (dk_at dksX2_swapRow_0 5 rfl rfl)
theorem dX2_swapRow_6 : decode cX2_swapRow 6 = .ok (.istore_n 2, 1) := dk_61 (dk_at dksX2_swapRow_0 6 rfl rfl)
theorem dX2_swapRow_7 : decode cX2_swapRow 7 = .ok (.aload_n 0, 1) := dk_42 (dk_at dksX2_swapRow_0 7 rfl rfl)
theorem dX2_swapRow_8 : decode cX2_swapRow 8 = .ok (.getfield 46, 3) := dk_180 0 46 (dk_at dksX2_swapRow_0 8 rfl rfl)
theorem dX2_swapRow_11 : decode cX2_swapRow 11 = .ok (.iload_n 1, 1) := dk_27 (dk_at dksX2_swapRow_0 11 rfl rfl)
theorem dX2_swapRow_12 : decode cX2_swapRow 12 = .ok (.aload_n 0, 1) := dk_42 (dk_at dksX2_swapRow_0 12 rfl rfl)
theorem dX2_swapRow_13 : decode cX2_swapRow 13 = .ok (.getfield 46, 3) := dk_180 0 46 (dk_at dksX2_swapRow_0 13 rfl rfl)
theorem dX2_swapRow_16 : decode cX2_swapRow 16 = .ok (.iload_n 1, 1) := dk_27 (dk_at dksX2_swapRow_0 16 rfl rfl)
theorem dX2_swapRow_17 : decode cX2_swapRow 17 = .ok (.iconst 1, 1) := dk_4 (dk_at dksX2_swapRow_0 17 rfl rfl)
theorem dX2_swapRow_18 : decode cX2_swapRow 18 = .ok (.iadd, 1) := dk_96 (dk_at dksX2_swapRow_0 18 rfl rfl)
theorem dX2_swapRow_19 : decode cX2_swapRow 19 = .ok (.iaload, 1) := dk_46 (dk_at dksX2_swapRow_0 19 rfl rfl)
theorem dX2_swapRow_20 : decode cX2_swapRow 20 = .ok (.iastore, 1) := dk_79 (dk_at dksX2_swapRow_0 20 rfl rfl)
theorem dX2_swapRow_21 : decode cX2_swapRow 21 = .ok (.aload_n 0, 1) := dk_42 (dk_at dksX2_swapRow_0 21 rfl rfl)
theorem dX2_swapRow_22 : decode cX2_swapRow 22 = .ok (.getfield 46, 3) := dk_180 0 46 (dk_at dksX2_swapRow_1 0 rfl rfl)
theorem dX2_swapRow_25 : decode cX2_swapRow 25 = .ok (.iload_n 1, 1) := dk_27 (dk_at dksX2_swapRow_1 3 rfl rfl)
theorem dX2_swapRow_26 : decode cX2_swapRow 26 = .ok (.iconst 1, 1) := dk_4 (dk_at dksX2_swapRow_1 4 rfl rfl)
theorem dX2_swapRow_27 : decode cX2_swapRow 27 = .ok (.iadd, 1) := dk_96 (dk_at dksX2_swapRow_1 5 rfl rfl)
theorem dX2_swapRow_28 : decode cX2_swapRow 28 = .ok (.iload_n 2, 1) := dk_28 (dk_at dksX2_swapRow_1 6 rfl rfl)
theorem dX2_swapRow_29 : decode cX2_swapRow 29 = .ok (.iastore, 1) := dk_79 (dk_at dksX2_swapRow_1 7 rfl rfl)
theorem dX2_swapRow_30 : decode cX2_swapRow 30 = .ok (.return_, 1) := dk_177 (dk_at dksX2_swapRow_1 8 rfl rfl)
abbrev MX2_swapRow : jjM := (yX2_swapRow, cX2_swapRow, 3, (Option.none : Option Jvm.ClassFile.FieldType))
theorem npX2_swapRow : yX2_swapRow.cls ≠ "java/lang/invoke/MethodHandle" ∧ yX2_swapRow.cls ≠ "java/lang/invoke/VarHandle" ∧ (parseMethodDescriptor yX2_swapRow.desc).map (fun d => d.parameters.length) = some 1 := by decide +kernel
abbrev cX2_round : ByteArray := prog_17_method_102_code
def yX2_round : MethodName := ⟨RX2, "round", "(IZ)I"⟩
def dkwX2_round_5 : List UInt8 := [167, 255, 213, 132, 3, 1, 167, 255, 197, 2, 172]
abbrev dktX2_round_5 : List UInt8 := dkwX2_round_5 ++ []
def dkwX2_round_4 : List UInt8 := [21, 4, 96, 47, 148, 154, 0, 14, 28, 153, 0, 8, 21, 4, 167, 0, 4, 29, 172, 132, 4, 2]
abbrev dktX2_round_4 : List UInt8 := dkwX2_round_4 ++ dktX2_round_5
def dkwX2_round_3 : List UInt8 := [5, 54, 4, 29, 21, 4, 96, 17, 1, 244, 163, 0, 39, 42, 180, 0, 49, 29, 47, 42, 180, 0, 49, 29]
abbrev dktX2_round_3 : List UInt8 := dkwX2_round_3 ++ dktX2_round_4
def dkwX2_round_2 : List UInt8 := [4, 46, 29, 96, 5, 112, 182, 1, 141, 132, 3, 1, 167, 255, 213, 3, 62, 29, 17, 1, 244, 163, 0, 58]
abbrev dktX2_round_2 : List UInt8 := dkwX2_round_2 ++ dktX2_round_3
def dkwX2_round_1 : List UInt8 := [42, 182, 1, 138, 153, 0, 5, 2, 172, 42, 180, 0, 49, 29, 42, 182, 1, 152, 80, 42, 42, 180, 0, 7]
abbrev dktX2_round_1 : List UInt8 := dkwX2_round_1 ++ dktX2_round_2
def dkwX2_round_0 : List UInt8 := [27, 184, 1, 54, 154, 0, 5, 2, 172, 42, 27, 2, 182, 1, 144, 3, 62, 29, 17, 1, 244, 163, 0, 42]
abbrev dktX2_round_0 : List UInt8 := dkwX2_round_0 ++ dktX2_round_1
theorem dksX2_round_0 : cX2_round.data.toList.drop 0 = dktX2_round_0 := by decide +kernel
theorem dksX2_round_1 : cX2_round.data.toList.drop 24 = dktX2_round_1 := dk_seg dksX2_round_0 24 rfl rfl
theorem dksX2_round_2 : cX2_round.data.toList.drop 48 = dktX2_round_2 := dk_seg dksX2_round_1 24 rfl rfl
theorem dksX2_round_3 : cX2_round.data.toList.drop 72 = dktX2_round_3 := dk_seg dksX2_round_2 24 rfl rfl
theorem dksX2_round_4 : cX2_round.data.toList.drop 96 = dktX2_round_4 := dk_seg dksX2_round_3 24 rfl rfl
theorem dksX2_round_5 : cX2_round.data.toList.drop 118 = dktX2_round_5 := dk_seg dksX2_round_4 22 rfl rfl
theorem dX2_round_0 : decode cX2_round 0 = .ok (.iload_n 1, 1) := dk_27 (dk_at dksX2_round_0 0 rfl rfl)
theorem dX2_round_1 : decode cX2_round 1 = .ok (.invokestatic 310, 3) := dk_184 1 54 (dk_at dksX2_round_0 1 rfl rfl)
theorem dX2_round_4 : decode cX2_round 4 = .ok (.ifCond .ne 5, 3) := dk_154 0 5 (dk_at dksX2_round_0 4 rfl rfl)
theorem dX2_round_7 : decode cX2_round 7 = .ok (.iconst (-1), 1) := dk_2 (dk_at dksX2_round_0 7 rfl rfl)
theorem dX2_round_8 : decode cX2_round 8 = .ok (.ireturn, 1) := dk_172 (dk_at dksX2_round_0 8 rfl rfl)
theorem dX2_round_9 : decode cX2_round 9 = .ok (.aload_n 0, 1) := dk_42 (dk_at dksX2_round_0 9 rfl rfl)
theorem dX2_round_10 : decode cX2_round 10 = .ok (.iload_n 1, 1) := dk_27 (dk_at dksX2_round_0 10 rfl rfl)
theorem dX2_round_11 : decode cX2_round 11 = .ok (.iconst (-1), 1) := dk_2 (dk_at dksX2_round_0 11 rfl rfl)
theorem dX2_round_12 : decode cX2_round 12 = .ok (.invokevirtual 400, 3) := dk_182 1 144 (dk_at dksX2_round_0 12 rfl rfl)
theorem dX2_round_15 : decode cX2_round 15 = .ok (.iconst 0, 1) := dk_3 (dk_at dksX2_round_0 15 rfl rfl)
theorem dX2_round_16 : decode cX2_round 16 = .ok (.istore_n 3, 1) := dk_62 (dk_at dksX2_round_0 16 rfl rfl)
theorem dX2_round_17 : decode cX2_round 17 = .ok (.iload_n 3, 1) := dk_29 (dk_at dksX2_round_0 17 rfl rfl)
theorem dX2_round_18 : decode cX2_round 18 = .ok (.sipush 500, 3) := dk_17 1 244 (dk_at dksX2_round_0 18 rfl rfl)
theorem dX2_round_21 : decode cX2_round 21 = .ok (.if_icmp .gt 42, 3) := dk_163 0 42 (dk_at dksX2_round_0 21 rfl rfl)
theorem dX2_round_24 : decode cX2_round 24 = .ok (.aload_n 0, 1) := dk_42 (dk_at dksX2_round_1 0 rfl rfl)
theorem dX2_round_25 : decode cX2_round 25 = .ok (.invokevirtual 394, 3) := dk_182 1 138 (dk_at dksX2_round_1 1 rfl rfl)
theorem dX2_round_28 : decode cX2_round 28 = .ok (.ifCond .eq 5, 3) := dk_153 0 5 (dk_at dksX2_round_1 4 rfl rfl)
theorem dX2_round_31 : decode cX2_round 31 = .ok (.iconst (-1), 1) := dk_2 (dk_at dksX2_round_1 7 rfl rfl)
theorem dX2_round_32 : decode cX2_round 32 = .ok (.ireturn, 1) := dk_172 (dk_at dksX2_round_1 8 rfl rfl)
theorem dX2_round_33 : decode cX2_round 33 = .ok (.aload_n 0, 1) := dk_42 (dk_at dksX2_round_1 9 rfl rfl)
theorem dX2_round_34 : decode cX2_round 34 = .ok (.getfield 49, 3) := dk_180 0 49 (dk_at dksX2_round_1 10 rfl rfl)
theorem dX2_round_37 : decode cX2_round 37 = .ok (.iload_n 3, 1) := dk_29 (dk_at dksX2_round_1 13 rfl rfl)
theorem dX2_round_38 : decode cX2_round 38 = .ok (.aload_n 0, 1) := dk_42 (dk_at dksX2_round_1 14 rfl rfl)
theorem dX2_round_39 : decode cX2_round 39 = .ok (.invokevirtual 408, 3) := dk_182 1 152 (dk_at dksX2_round_1 15 rfl rfl)
theorem dX2_round_42 : decode cX2_round 42 = .ok (.lastore, 1) := dk_80 (dk_at dksX2_round_1 18 rfl rfl)
theorem dX2_round_43 : decode cX2_round 43 = .ok (.aload_n 0, 1) := dk_42 (dk_at dksX2_round_1 19 rfl rfl)
theorem dX2_round_44 : decode cX2_round 44 = .ok (.aload_n 0, 1) := dk_42 (dk_at dksX2_round_1 20 rfl rfl)
theorem dX2_round_45 : decode cX2_round 45 = .ok (.getfield 7, 3) := dk_180 0 7 (dk_at dksX2_round_1 21 rfl rfl)
theorem dX2_round_48 : decode cX2_round 48 = .ok (.iconst 1, 1) := dk_4 (dk_at dksX2_round_2 0 rfl rfl)
theorem dX2_round_49 : decode cX2_round 49 = .ok (.iaload, 1) := dk_46 (dk_at dksX2_round_2 1 rfl rfl)
theorem dX2_round_50 : decode cX2_round 50 = .ok (.iload_n 3, 1) := dk_29 (dk_at dksX2_round_2 2 rfl rfl)
theorem dX2_round_51 : decode cX2_round 51 = .ok (.iadd, 1) := dk_96 (dk_at dksX2_round_2 3 rfl rfl)
theorem dX2_round_52 : decode cX2_round 52 = .ok (.iconst 2, 1) := dk_5 (dk_at dksX2_round_2 4 rfl rfl)
theorem dX2_round_53 : decode cX2_round 53 = .ok (.irem, 1) := dk_112 (dk_at dksX2_round_2 5 rfl rfl)
theorem dX2_round_54 : decode cX2_round 54 = .ok (.invokevirtual 397, 3) := dk_182 1 141 (dk_at dksX2_round_2 6 rfl rfl)
theorem dX2_round_57 : decode cX2_round 57 = .ok (.iinc 3 1, 3) := dk_132 3 1 (dk_at dksX2_round_2 9 rfl rfl)
theorem dX2_round_60 : decode cX2_round 60 = .ok (.goto (-43), 3) := dk_167 255 213 (dk_at dksX2_round_2 12 rfl rfl)
theorem dX2_round_63 : decode cX2_round 63 = .ok (.iconst 0, 1) := dk_3 (dk_at dksX2_round_2 15 rfl rfl)
theorem dX2_round_64 : decode cX2_round 64 = .ok (.istore_n 3, 1) := dk_62 (dk_at dksX2_round_2 16 rfl rfl)
theorem dX2_round_65 : decode cX2_round 65 = .ok (.iload_n 3, 1) := dk_29 (dk_at dksX2_round_2 17 rfl rfl)
theorem dX2_round_66 : decode cX2_round 66 = .ok (.sipush 500, 3) := dk_17 1 244 (dk_at dksX2_round_2 18 rfl rfl)
theorem dX2_round_69 : decode cX2_round 69 = .ok (.if_icmp .gt 58, 3) := dk_163 0 58 (dk_at dksX2_round_2 21 rfl rfl)
theorem dX2_round_72 : decode cX2_round 72 = .ok (.iconst 2, 1) := dk_5 (dk_at dksX2_round_3 0 rfl rfl)
theorem dX2_round_73 : decode cX2_round 73 = .ok (.istore 4, 2) := dk_54 4 (dk_at dksX2_round_3 1 rfl rfl)
theorem dX2_round_75 : decode cX2_round 75 = .ok (.iload_n 3, 1) := dk_29 (dk_at dksX2_round_3 3 rfl rfl)
theorem dX2_round_76 : decode cX2_round 76 = .ok (.iload 4, 2) := dk_21 4 (dk_at dksX2_round_3 4 rfl rfl)
theorem dX2_round_78 : decode cX2_round 78 = .ok (.iadd, 1) := dk_96 (dk_at dksX2_round_3 6 rfl rfl)
theorem dX2_round_79 : decode cX2_round 79 = .ok (.sipush 500, 3) := dk_17 1 244 (dk_at dksX2_round_3 7 rfl rfl)
theorem dX2_round_82 : decode cX2_round 82 = .ok (.if_icmp .gt 39, 3) := dk_163 0 39 (dk_at dksX2_round_3 10 rfl rfl)
theorem dX2_round_85 : decode cX2_round 85 = .ok (.aload_n 0, 1) := dk_42 (dk_at dksX2_round_3 13 rfl rfl)
theorem dX2_round_86 : decode cX2_round 86 = .ok (.getfield 49, 3) := dk_180 0 49 (dk_at dksX2_round_3 14 rfl rfl)
theorem dX2_round_89 : decode cX2_round 89 = .ok (.iload_n 3, 1) := dk_29 (dk_at dksX2_round_3 17 rfl rfl)
theorem dX2_round_90 : decode cX2_round 90 = .ok (.laload, 1) := dk_47 (dk_at dksX2_round_3 18 rfl rfl)
theorem dX2_round_91 : decode cX2_round 91 = .ok (.aload_n 0, 1) := dk_42 (dk_at dksX2_round_3 19 rfl rfl)
theorem dX2_round_92 : decode cX2_round 92 = .ok (.getfield 49, 3) := dk_180 0 49 (dk_at dksX2_round_3 20 rfl rfl)
theorem dX2_round_95 : decode cX2_round 95 = .ok (.iload_n 3, 1) := dk_29 (dk_at dksX2_round_3 23 rfl rfl)
theorem dX2_round_96 : decode cX2_round 96 = .ok (.iload 4, 2) := dk_21 4 (dk_at dksX2_round_4 0 rfl rfl)
theorem dX2_round_98 : decode cX2_round 98 = .ok (.iadd, 1) := dk_96 (dk_at dksX2_round_4 2 rfl rfl)
theorem dX2_round_99 : decode cX2_round 99 = .ok (.laload, 1) := dk_47 (dk_at dksX2_round_4 3 rfl rfl)
theorem dX2_round_100 : decode cX2_round 100 = .ok (.lcmp, 1) := dk_148 (dk_at dksX2_round_4 4 rfl rfl)
theorem dX2_round_101 : decode cX2_round 101 = .ok (.ifCond .ne 14, 3) := dk_154 0 14 (dk_at dksX2_round_4 5 rfl rfl)
theorem dX2_round_104 : decode cX2_round 104 = .ok (.iload_n 2, 1) := dk_28 (dk_at dksX2_round_4 8 rfl rfl)
theorem dX2_round_105 : decode cX2_round 105 = .ok (.ifCond .eq 8, 3) := dk_153 0 8 (dk_at dksX2_round_4 9 rfl rfl)
theorem dX2_round_108 : decode cX2_round 108 = .ok (.iload 4, 2) := dk_21 4 (dk_at dksX2_round_4 12 rfl rfl)
theorem dX2_round_110 : decode cX2_round 110 = .ok (.goto 4, 3) := dk_167 0 4 (dk_at dksX2_round_4 14 rfl rfl)
theorem dX2_round_113 : decode cX2_round 113 = .ok (.iload_n 3, 1) := dk_29 (dk_at dksX2_round_4 17 rfl rfl)
theorem dX2_round_114 : decode cX2_round 114 = .ok (.ireturn, 1) := dk_172 (dk_at dksX2_round_4 18 rfl rfl)
theorem dX2_round_115 : decode cX2_round 115 = .ok (.iinc 4 2, 3) := dk_132 4 2 (dk_at dksX2_round_4 19 rfl rfl)
theorem dX2_round_118 : decode cX2_round 118 = .ok (.goto (-43), 3) := dk_167 255 213 (dk_at dksX2_round_5 0 rfl rfl)
theorem dX2_round_121 : decode cX2_round 121 = .ok (.iinc 3 1, 3) := dk_132 3 1 (dk_at dksX2_round_5 3 rfl rfl)
theorem dX2_round_124 : decode cX2_round 124 = .ok (.goto (-59), 3) := dk_167 255 197 (dk_at dksX2_round_5 6 rfl rfl)
theorem dX2_round_127 : decode cX2_round 127 = .ok (.iconst (-1), 1) := dk_2 (dk_at dksX2_round_5 9 rfl rfl)
theorem dX2_round_128 : decode cX2_round 128 = .ok (.ireturn, 1) := dk_172 (dk_at dksX2_round_5 10 rfl rfl)
abbrev MX2_round : jjM := (yX2_round, cX2_round, 5, (Option.some Jvm.ClassFile.FieldType.int))
theorem npX2_round : yX2_round.cls ≠ "java/lang/invoke/MethodHandle" ∧ yX2_round.cls ≠ "java/lang/invoke/VarHandle" ∧ (parseMethodDescriptor yX2_round.desc).map (fun d => d.parameters.length) = some 2 := by decide +kernel
abbrev cX2_rowNumber : ByteArray := prog_17_method_101_code
def yX2_rowNumber : MethodName := ⟨RX2, "rowNumber", "()J"⟩
def dkwX2_rowNumber_1 : List UInt8 := [97, 64, 132, 3, 1, 167, 255, 231, 31, 173]
abbrev dktX2_rowNumber_1 : List UInt8 := dkwX2_rowNumber_1 ++ []
def dkwX2_rowNumber_0 : List UInt8 := [9, 64, 3, 62, 29, 42, 180, 1, 132, 162, 0, 23, 20, 1, 150, 31, 105, 42, 180, 0, 46, 29, 46, 133]
abbrev dktX2_rowNumber_0 : List UInt8 := dkwX2_rowNumber_0 ++ dktX2_rowNumber_1
theorem dksX2_rowNumber_0 : cX2_rowNumber.data.toList.drop 0 = dktX2_rowNumber_0 := by decide +kernel
theorem dksX2_rowNumber_1 : cX2_rowNumber.data.toList.drop 24 = dktX2_rowNumber_1 := dk_seg dksX2_rowNumber_0 24 rfl rfl
theorem dX2_rowNumber_0 : decode cX2_rowNumber 0 = .ok (.lconst 0, 1) := dk_9 (dk_at dksX2_rowNumber_0 0 rfl rfl)
theorem dX2_rowNumber_1 : decode cX2_rowNumber 1 = .ok (.lstore_n 1, 1) := dk_64 (dk_at dksX2_rowNumber_0 1 rfl rfl)
theorem dX2_rowNumber_2 : decode cX2_rowNumber 2 = .ok (.iconst 0, 1) := dk_3 (dk_at dksX2_rowNumber_0 2 rfl rfl)
theorem dX2_rowNumber_3 : decode cX2_rowNumber 3 = .ok (.istore_n 3, 1) := dk_62 (dk_at dksX2_rowNumber_0 3 rfl rfl)
theorem dX2_rowNumber_4 : decode cX2_rowNumber 4 = .ok (.iload_n 3, 1) := dk_29 (dk_at dksX2_rowNumber_0 4 rfl rfl)
theorem dX2_rowNumber_5 : decode cX2_rowNumber 5 = .ok (.aload_n 0, 1) := dk_42 (dk_at dksX2_rowNumber_0 5 rfl rfl)
theorem dX2_rowNumber_6 : decode cX2_rowNumber 6 = .ok (.getfield 388, 3) := dk_180 1 132 (dk_at dksX2_rowNumber_0 6 rfl rfl)
theorem dX2_rowNumber_9 : decode cX2_rowNumber 9 = .ok (.if_icmp .ge 23, 3) := dk_162 0 23 (dk_at dksX2_rowNumber_0 9 rfl rfl)
theorem dX2_rowNumber_12 : decode cX2_rowNumber 12 = .ok (.ldc2_w 406, 3) := dk_20 1 150 (dk_at dksX2_rowNumber_0 12 rfl rfl)
theorem dX2_rowNumber_15 : decode cX2_rowNumber 15 = .ok (.lload_n 1, 1) := dk_31 (dk_at dksX2_rowNumber_0 15 rfl rfl)
theorem dX2_rowNumber_16 : decode cX2_rowNumber 16 = .ok (.lmul, 1) := dk_105 (dk_at dksX2_rowNumber_0 16 rfl rfl)
theorem dX2_rowNumber_17 : decode cX2_rowNumber 17 = .ok (.aload_n 0, 1) := dk_42 (dk_at dksX2_rowNumber_0 17 rfl rfl)
theorem dX2_rowNumber_18 : decode cX2_rowNumber 18 = .ok (.getfield 46, 3) := dk_180 0 46 (dk_at dksX2_rowNumber_0 18 rfl rfl)
theorem dX2_rowNumber_21 : decode cX2_rowNumber 21 = .ok (.iload_n 3, 1) := dk_29 (dk_at dksX2_rowNumber_0 21 rfl rfl)
theorem dX2_rowNumber_22 : decode cX2_rowNumber 22 = .ok (.iaload, 1) := dk_46 (dk_at dksX2_rowNumber_0 22 rfl rfl)
theorem dX2_rowNumber_23 : decode cX2_rowNumber 23 = .ok (.i2l, 1) := dk_133 (dk_at dksX2_rowNumber_0 23 rfl rfl)
theorem dX2_rowNumber_24 : decode cX2_rowNumber 24 = .ok (.ladd, 1) := dk_97 (dk_at dksX2_rowNumber_1 0 rfl rfl)
theorem dX2_rowNumber_25 : decode cX2_rowNumber 25 = .ok (.lstore_n 1, 1) := dk_64 (dk_at dksX2_rowNumber_1 1 rfl rfl)
theorem dX2_rowNumber_26 : decode cX2_rowNumber 26 = .ok (.iinc 3 1, 3) := dk_132 3 1 (dk_at dksX2_rowNumber_1 2 rfl rfl)
theorem dX2_rowNumber_29 : decode cX2_rowNumber 29 = .ok (.goto (-25), 3) := dk_167 255 231 (dk_at dksX2_rowNumber_1 5 rfl rfl)
theorem dX2_rowNumber_32 : decode cX2_rowNumber 32 = .ok (.lload_n 1, 1) := dk_31 (dk_at dksX2_rowNumber_1 8 rfl rfl)
theorem dX2_rowNumber_33 : decode cX2_rowNumber 33 = .ok (.lreturn, 1) := dk_173 (dk_at dksX2_rowNumber_1 9 rfl rfl)
abbrev MX2_rowNumber : jjM := (yX2_rowNumber, cX2_rowNumber, 4, (Option.some Jvm.ClassFile.FieldType.long))
theorem npX2_rowNumber : yX2_rowNumber.cls ≠ "java/lang/invoke/MethodHandle" ∧ yX2_rowNumber.cls ≠ "java/lang/invoke/VarHandle" ∧ (parseMethodDescriptor yX2_rowNumber.desc).map (fun d => d.parameters.length) = some 0 := by decide +kernel
abbrev cX2_calm : ByteArray := prog_17_method_114_code
def yX2_calm : MethodName := ⟨RX2, "calm", "(III)I"⟩
def dkwX2_calm_5 : List UInt8 := [172]
abbrev dktX2_calm_5 : List UInt8 := dkwX2_calm_5 ++ []
def dkwX2_calm_4 : List UInt8 := [153, 0, 23, 42, 180, 0, 61, 42, 180, 0, 52, 16, 6, 21, 4, 104, 29, 96, 46, 46, 167, 0, 4, 2]
abbrev dktX2_calm_4 : List UInt8 := dkwX2_calm_4 ++ dktX2_calm_5
def dkwX2_calm_3 : List UInt8 := [28, 182, 1, 198, 54, 4, 21, 4, 155, 0, 37, 29, 3, 42, 180, 1, 156, 4, 100, 184, 0, 89]
abbrev dktX2_calm_3 : List UInt8 := dkwX2_calm_3 ++ dktX2_calm_4
def dkwX2_calm_2 : List UInt8 := [21, 5, 51, 153, 0, 7, 4, 167, 0, 4, 3, 96, 54, 4, 132, 5, 1, 167, 255, 224, 21, 4, 172, 42]
abbrev dktX2_calm_2 : List UInt8 := dkwX2_calm_2 ++ dktX2_calm_3
def dkwX2_calm_1 : List UInt8 := [160, 0, 47, 3, 54, 4, 3, 54, 5, 21, 5, 42, 180, 1, 162, 162, 0, 29, 21, 4, 42, 180, 0, 58]
abbrev dktX2_calm_1 : List UInt8 := dkwX2_calm_1 ++ dktX2_calm_2
def dkwX2_calm_0 : List UInt8 := [42, 27, 182, 1, 192, 153, 0, 8, 28, 2, 162, 0, 5, 2, 172, 42, 27, 182, 1, 195, 28, 2]
abbrev dktX2_calm_0 : List UInt8 := dkwX2_calm_0 ++ dktX2_calm_1
theorem dksX2_calm_0 : cX2_calm.data.toList.drop 0 = dktX2_calm_0 := by decide +kernel
theorem dksX2_calm_1 : cX2_calm.data.toList.drop 22 = dktX2_calm_1 := dk_seg dksX2_calm_0 22 rfl rfl
theorem dksX2_calm_2 : cX2_calm.data.toList.drop 46 = dktX2_calm_2 := dk_seg dksX2_calm_1 24 rfl rfl
theorem dksX2_calm_3 : cX2_calm.data.toList.drop 70 = dktX2_calm_3 := dk_seg dksX2_calm_2 24 rfl rfl
theorem dksX2_calm_4 : cX2_calm.data.toList.drop 92 = dktX2_calm_4 := dk_seg dksX2_calm_3 22 rfl rfl
theorem dksX2_calm_5 : cX2_calm.data.toList.drop 116 = dktX2_calm_5 := dk_seg dksX2_calm_4 24 rfl rfl
theorem dX2_calm_0 : decode cX2_calm 0 = .ok (.aload_n 0, 1) := dk_42 (dk_at dksX2_calm_0 0 rfl rfl)
theorem dX2_calm_1 : decode cX2_calm 1 = .ok (.iload_n 1, 1) := dk_27 (dk_at dksX2_calm_0 1 rfl rfl)
theorem dX2_calm_2 : decode cX2_calm 2 = .ok (.invokevirtual 448, 3) := dk_182 1 192 (dk_at dksX2_calm_0 2 rfl rfl)
theorem dX2_calm_5 : decode cX2_calm 5 = .ok (.ifCond .eq 8, 3) := dk_153 0 8 (dk_at dksX2_calm_0 5 rfl rfl)
theorem dX2_calm_8 : decode cX2_calm 8 = .ok (.iload_n 2, 1) := dk_28 (dk_at dksX2_calm_0 8 rfl rfl)
theorem dX2_calm_9 : decode cX2_calm 9 = .ok (.iconst (-1), 1) := dk_2 (dk_at dksX2_calm_0 9 rfl rfl)
theorem dX2_calm_10 : decode cX2_calm 10 = .ok (.if_icmp .ge 5, 3) := dk_162 0 5 (dk_at dksX2_calm_0 10 rfl rfl)
theorem dX2_calm_13 : decode cX2_calm 13 = .ok (.iconst (-1), 1) := dk_2 (dk_at dksX2_calm_0 13 rfl rfl)
theorem dX2_calm_14 : decode cX2_calm 14 = .ok (.ireturn, 1) := dk_172 (dk_at dksX2_calm_0 14 rfl rfl)
theorem dX2_calm_15 : decode cX2_calm 15 = .ok (.aload_n 0, 1) := dk_42 (dk_at dksX2_calm_0 15 rfl rfl)
theorem dX2_calm_16 : decode cX2_calm 16 = .ok (.iload_n 1, 1) := dk_27 (dk_at dksX2_calm_0 16 rfl rfl)
theorem dX2_calm_17 : decode cX2_calm 17 = .ok (.invokevirtual 451, 3) := dk_182 1 195 (dk_at dksX2_calm_0 17 rfl rfl)
theorem dX2_calm_20 : decode cX2_calm 20 = .ok (.iload_n 2, 1) := dk_28 (dk_at dksX2_calm_0 20 rfl rfl)
theorem dX2_calm_21 : decode cX2_calm 21 = .ok (.iconst (-1), 1) := dk_2 (dk_at dksX2_calm_0 21 rfl rfl)
theorem dX2_calm_22 : decode cX2_calm 22 = .ok (.if_icmp .ne 47, 3) := dk_160 0 47 (dk_at dksX2_calm_1 0 rfl rfl)
theorem dX2_calm_25 : decode cX2_calm 25 = .ok (.iconst 0, 1) := dk_3 (dk_at dksX2_calm_1 3 rfl rfl)
theorem dX2_calm_26 : decode cX2_calm 26 = .ok (.istore 4, 2) := dk_54 4 (dk_at dksX2_calm_1 4 rfl rfl)
theorem dX2_calm_28 : decode cX2_calm 28 = .ok (.iconst 0, 1) := dk_3 (dk_at dksX2_calm_1 6 rfl rfl)
theorem dX2_calm_29 : decode cX2_calm 29 = .ok (.istore 5, 2) := dk_54 5 (dk_at dksX2_calm_1 7 rfl rfl)
theorem dX2_calm_31 : decode cX2_calm 31 = .ok (.iload 5, 2) := dk_21 5 (dk_at dksX2_calm_1 9 rfl rfl)
theorem dX2_calm_33 : decode cX2_calm 33 = .ok (.aload_n 0, 1) := dk_42 (dk_at dksX2_calm_1 11 rfl rfl)
theorem dX2_calm_34 : decode cX2_calm 34 = .ok (.getfield 418, 3) := dk_180 1 162 (dk_at dksX2_calm_1 12 rfl rfl)
theorem dX2_calm_37 : decode cX2_calm 37 = .ok (.if_icmp .ge 29, 3) := dk_162 0 29 (dk_at dksX2_calm_1 15 rfl rfl)
theorem dX2_calm_40 : decode cX2_calm 40 = .ok (.iload 4, 2) := dk_21 4 (dk_at dksX2_calm_1 18 rfl rfl)
theorem dX2_calm_42 : decode cX2_calm 42 = .ok (.aload_n 0, 1) := dk_42 (dk_at dksX2_calm_1 20 rfl rfl)
theorem dX2_calm_43 : decode cX2_calm 43 = .ok (.getfield 58, 3) := dk_180 0 58 (dk_at dksX2_calm_1 21 rfl rfl)
theorem dX2_calm_46 : decode cX2_calm 46 = .ok (.iload 5, 2) := dk_21 5 (dk_at dksX2_calm_2 0 rfl rfl)
theorem dX2_calm_48 : decode cX2_calm 48 = .ok (.baload, 1) := dk_51 (dk_at dksX2_calm_2 2 rfl rfl)
theorem dX2_calm_49 : decode cX2_calm 49 = .ok (.ifCond .eq 7, 3) := dk_153 0 7 (dk_at dksX2_calm_2 3 rfl rfl)
theorem dX2_calm_52 : decode cX2_calm 52 = .ok (.iconst 1, 1) := dk_4 (dk_at dksX2_calm_2 6 rfl rfl)
theorem dX2_calm_53 : decode cX2_calm 53 = .ok (.goto 4, 3) := dk_167 0 4 (dk_at dksX2_calm_2 7 rfl rfl)
theorem dX2_calm_56 : decode cX2_calm 56 = .ok (.iconst 0, 1) := dk_3 (dk_at dksX2_calm_2 10 rfl rfl)
theorem dX2_calm_57 : decode cX2_calm 57 = .ok (.iadd, 1) := dk_96 (dk_at dksX2_calm_2 11 rfl rfl)
theorem dX2_calm_58 : decode cX2_calm 58 = .ok (.istore 4, 2) := dk_54 4 (dk_at dksX2_calm_2 12 rfl rfl)
theorem dX2_calm_60 : decode cX2_calm 60 = .ok (.iinc 5 1, 3) := dk_132 5 1 (dk_at dksX2_calm_2 14 rfl rfl)
theorem dX2_calm_63 : decode cX2_calm 63 = .ok (.goto (-32), 3) := dk_167 255 224 (dk_at dksX2_calm_2 17 rfl rfl)
theorem dX2_calm_66 : decode cX2_calm 66 = .ok (.iload 4, 2) := dk_21 4 (dk_at dksX2_calm_2 20 rfl rfl)
theorem dX2_calm_68 : decode cX2_calm 68 = .ok (.ireturn, 1) := dk_172 (dk_at dksX2_calm_2 22 rfl rfl)
theorem dX2_calm_69 : decode cX2_calm 69 = .ok (.aload_n 0, 1) := dk_42 (dk_at dksX2_calm_2 23 rfl rfl)
theorem dX2_calm_70 : decode cX2_calm 70 = .ok (.iload_n 2, 1) := dk_28 (dk_at dksX2_calm_3 0 rfl rfl)
theorem dX2_calm_71 : decode cX2_calm 71 = .ok (.invokevirtual 454, 3) := dk_182 1 198 (dk_at dksX2_calm_3 1 rfl rfl)
theorem dX2_calm_74 : decode cX2_calm 74 = .ok (.istore 4, 2) := dk_54 4 (dk_at dksX2_calm_3 4 rfl rfl)
theorem dX2_calm_76 : decode cX2_calm 76 = .ok (.iload 4, 2) := dk_21 4 (dk_at dksX2_calm_3 6 rfl rfl)
theorem dX2_calm_78 : decode cX2_calm 78 = .ok (.ifCond .lt 37, 3) := dk_155 0 37 (dk_at dksX2_calm_3 8 rfl rfl)
theorem dX2_calm_81 : decode cX2_calm 81 = .ok (.iload_n 3, 1) := dk_29 (dk_at dksX2_calm_3 11 rfl rfl)
theorem dX2_calm_82 : decode cX2_calm 82 = .ok (.iconst 0, 1) := dk_3 (dk_at dksX2_calm_3 12 rfl rfl)
theorem dX2_calm_83 : decode cX2_calm 83 = .ok (.aload_n 0, 1) := dk_42 (dk_at dksX2_calm_3 13 rfl rfl)
theorem dX2_calm_84 : decode cX2_calm 84 = .ok (.getfield 412, 3) := dk_180 1 156 (dk_at dksX2_calm_3 14 rfl rfl)
theorem dX2_calm_87 : decode cX2_calm 87 = .ok (.iconst 1, 1) := dk_4 (dk_at dksX2_calm_3 17 rfl rfl)
theorem dX2_calm_88 : decode cX2_calm 88 = .ok (.isub, 1) := dk_100 (dk_at dksX2_calm_3 18 rfl rfl)
theorem dX2_calm_89 : decode cX2_calm 89 = .ok (.invokestatic 89, 3) := dk_184 0 89 (dk_at dksX2_calm_3 19 rfl rfl)
theorem dX2_calm_92 : decode cX2_calm 92 = .ok (.ifCond .eq 23, 3) := dk_153 0 23 (dk_at dksX2_calm_4 0 rfl rfl)
theorem dX2_calm_95 : decode cX2_calm 95 = .ok (.aload_n 0, 1) := dk_42 (dk_at dksX2_calm_4 3 rfl rfl)
theorem dX2_calm_96 : decode cX2_calm 96 = .ok (.getfield 61, 3) := dk_180 0 61 (dk_at dksX2_calm_4 4 rfl rfl)
theorem dX2_calm_99 : decode cX2_calm 99 = .ok (.aload_n 0, 1) := dk_42 (dk_at dksX2_calm_4 7 rfl rfl)
theorem dX2_calm_100 : decode cX2_calm 100 = .ok (.getfield 52, 3) := dk_180 0 52 (dk_at dksX2_calm_4 8 rfl rfl)
theorem dX2_calm_103 : decode cX2_calm 103 = .ok (.bipush 6, 2) := dk_16 6 (dk_at dksX2_calm_4 11 rfl rfl)
theorem dX2_calm_105 : decode cX2_calm 105 = .ok (.iload 4, 2) := dk_21 4 (dk_at dksX2_calm_4 13 rfl rfl)
theorem dX2_calm_107 : decode cX2_calm 107 = .ok (.imul, 1) := dk_104 (dk_at dksX2_calm_4 15 rfl rfl)
theorem dX2_calm_108 : decode cX2_calm 108 = .ok (.iload_n 3, 1) := dk_29 (dk_at dksX2_calm_4 16 rfl rfl)
theorem dX2_calm_109 : decode cX2_calm 109 = .ok (.iadd, 1) := dk_96 (dk_at dksX2_calm_4 17 rfl rfl)
theorem dX2_calm_110 : decode cX2_calm 110 = .ok (.iaload, 1) := dk_46 (dk_at dksX2_calm_4 18 rfl rfl)
theorem dX2_calm_111 : decode cX2_calm 111 = .ok (.iaload, 1) := dk_46 (dk_at dksX2_calm_4 19 rfl rfl)
theorem dX2_calm_112 : decode cX2_calm 112 = .ok (.goto 4, 3) := dk_167 0 4 (dk_at dksX2_calm_4 20 rfl rfl)
theorem dX2_calm_115 : decode cX2_calm 115 = .ok (.iconst (-1), 1) := dk_2 (dk_at dksX2_calm_4 23 rfl rfl)
theorem dX2_calm_116 : decode cX2_calm 116 = .ok (.ireturn, 1) := dk_172 (dk_at dksX2_calm_5 0 rfl rfl)
abbrev MX2_calm : jjM := (yX2_calm, cX2_calm, 6, (Option.some Jvm.ClassFile.FieldType.int))
theorem npX2_calm : yX2_calm.cls ≠ "java/lang/invoke/MethodHandle" ∧ yX2_calm.cls ≠ "java/lang/invoke/VarHandle" ∧ (parseMethodDescriptor yX2_calm.desc).map (fun d => d.parameters.length) = some 3 := by decide +kernel
abbrev cX2_isSet : ByteArray := prog_17_method_111_code
def yX2_isSet : MethodName := ⟨RX2, "isSet", "(I)Z"⟩
def dkwX2_isSet_1 : List UInt8 := [163, 0, 7, 4, 167, 0, 4, 3, 172]
abbrev dktX2_isSet_1 : List UInt8 := dkwX2_isSet_1 ++ []
def dkwX2_isSet_0 : List UInt8 := [27, 4, 4, 42, 180, 0, 7, 3, 46, 120, 4, 100, 184, 0, 89, 153, 0, 16, 27, 184, 1, 186, 16, 6]
abbrev dktX2_isSet_0 : List UInt8 := dkwX2_isSet_0 ++ dktX2_isSet_1
theorem dksX2_isSet_0 : cX2_isSet.data.toList.drop 0 = dktX2_isSet_0 := by decide +kernel
theorem dksX2_isSet_1 : cX2_isSet.data.toList.drop 24 = dktX2_isSet_1 := dk_seg dksX2_isSet_0 24 rfl rfl
theorem dX2_isSet_0 : decode cX2_isSet 0 = .ok (.iload_n 1, 1) := dk_27 (dk_at dksX2_isSet_0 0 rfl rfl)
theorem dX2_isSet_1 : decode cX2_isSet 1 = .ok (.iconst 1, 1) := dk_4 (dk_at dksX2_isSet_0 1 rfl rfl)
theorem dX2_isSet_2 : decode cX2_isSet 2 = .ok (.iconst 1, 1) := dk_4 (dk_at dksX2_isSet_0 2 rfl rfl)
theorem dX2_isSet_3 : decode cX2_isSet 3 = .ok (.aload_n 0, 1) := dk_42 (dk_at dksX2_isSet_0 3 rfl rfl)
theorem dX2_isSet_4 : decode cX2_isSet 4 = .ok (.getfield 7, 3) := dk_180 0 7 (dk_at dksX2_isSet_0 4 rfl rfl)
theorem dX2_isSet_7 : decode cX2_isSet 7 = .ok (.iconst 0, 1) := dk_3 (dk_at dksX2_isSet_0 7 rfl rfl)
theorem dX2_isSet_8 : decode cX2_isSet 8 = .ok (.iaload, 1) := dk_46 (dk_at dksX2_isSet_0 8 rfl rfl)
theorem dX2_isSet_9 : decode cX2_isSet 9 = .ok (.ishl, 1) := dk_120 (dk_at dksX2_isSet_0 9 rfl rfl)
theorem dX2_isSet_10 : decode cX2_isSet 10 = .ok (.iconst 1, 1) := dk_4 (dk_at dksX2_isSet_0 10 rfl rfl)
theorem dX2_isSet_11 : decode cX2_isSet 11 = .ok (.isub, 1) := dk_100 (dk_at dksX2_isSet_0 11 rfl rfl)
theorem dX2_isSet_12 : decode cX2_isSet 12 = .ok (.invokestatic 89, 3) := dk_184 0 89 (dk_at dksX2_isSet_0 12 rfl rfl)
theorem dX2_isSet_15 : decode cX2_isSet 15 = .ok (.ifCond .eq 16, 3) := dk_153 0 16 (dk_at dksX2_isSet_0 15 rfl rfl)
theorem dX2_isSet_18 : decode cX2_isSet 18 = .ok (.iload_n 1, 1) := dk_27 (dk_at dksX2_isSet_0 18 rfl rfl)
theorem dX2_isSet_19 : decode cX2_isSet 19 = .ok (.invokestatic 442, 3) := dk_184 1 186 (dk_at dksX2_isSet_0 19 rfl rfl)
theorem dX2_isSet_22 : decode cX2_isSet 22 = .ok (.bipush 6, 2) := dk_16 6 (dk_at dksX2_isSet_0 22 rfl rfl)
theorem dX2_isSet_24 : decode cX2_isSet 24 = .ok (.if_icmp .gt 7, 3) := dk_163 0 7 (dk_at dksX2_isSet_1 0 rfl rfl)
theorem dX2_isSet_27 : decode cX2_isSet 27 = .ok (.iconst 1, 1) := dk_4 (dk_at dksX2_isSet_1 3 rfl rfl)
theorem dX2_isSet_28 : decode cX2_isSet 28 = .ok (.goto 4, 3) := dk_167 0 4 (dk_at dksX2_isSet_1 4 rfl rfl)
theorem dX2_isSet_31 : decode cX2_isSet 31 = .ok (.iconst 0, 1) := dk_3 (dk_at dksX2_isSet_1 7 rfl rfl)
theorem dX2_isSet_32 : decode cX2_isSet 32 = .ok (.ireturn, 1) := dk_172 (dk_at dksX2_isSet_1 8 rfl rfl)
abbrev MX2_isSet : jjM := (yX2_isSet, cX2_isSet, 2, (Option.some Jvm.ClassFile.FieldType.boolean))
theorem npX2_isSet : yX2_isSet.cls ≠ "java/lang/invoke/MethodHandle" ∧ yX2_isSet.cls ≠ "java/lang/invoke/VarHandle" ∧ (parseMethodDescriptor yX2_isSet.desc).map (fun d => d.parameters.length) = some 1 := by decide +kernel
abbrev cX2_bits : ByteArray := prog_17_method_5_code
def yX2_bits : MethodName := ⟨RX2, "bits", "(I)I"⟩
def dkwX2_bits_1 : List UInt8 := [27, 172]
abbrev dktX2_bits_1 : List UInt8 := dkwX2_bits_1 ++ []
def dkwX2_bits_0 : List UInt8 := [3, 60, 3, 61, 28, 16, 10, 162, 0, 17, 27, 26, 28, 122, 4, 126, 96, 60, 132, 2, 1, 167, 255, 239]
abbrev dktX2_bits_0 : List UInt8 := dkwX2_bits_0 ++ dktX2_bits_1
theorem dksX2_bits_0 : cX2_bits.data.toList.drop 0 = dktX2_bits_0 := by decide +kernel
theorem dksX2_bits_1 : cX2_bits.data.toList.drop 24 = dktX2_bits_1 := dk_seg dksX2_bits_0 24 rfl rfl
theorem dX2_bits_0 : decode cX2_bits 0 = .ok (.iconst 0, 1) := dk_3 (dk_at dksX2_bits_0 0 rfl rfl)
theorem dX2_bits_1 : decode cX2_bits 1 = .ok (.istore_n 1, 1) := dk_60 (dk_at dksX2_bits_0 1 rfl rfl)
theorem dX2_bits_2 : decode cX2_bits 2 = .ok (.iconst 0, 1) := dk_3 (dk_at dksX2_bits_0 2 rfl rfl)
theorem dX2_bits_3 : decode cX2_bits 3 = .ok (.istore_n 2, 1) := dk_61 (dk_at dksX2_bits_0 3 rfl rfl)
theorem dX2_bits_4 : decode cX2_bits 4 = .ok (.iload_n 2, 1) := dk_28 (dk_at dksX2_bits_0 4 rfl rfl)
theorem dX2_bits_5 : decode cX2_bits 5 = .ok (.bipush 10, 2) := dk_16 10 (dk_at dksX2_bits_0 5 rfl rfl)
theorem dX2_bits_7 : decode cX2_bits 7 = .ok (.if_icmp .ge 17, 3) := dk_162 0 17 (dk_at dksX2_bits_0 7 rfl rfl)
theorem dX2_bits_10 : decode cX2_bits 10 = .ok (.iload_n 1, 1) := dk_27 (dk_at dksX2_bits_0 10 rfl rfl)
theorem dX2_bits_11 : decode cX2_bits 11 = .ok (.iload_n 0, 1) := dk_26 (dk_at dksX2_bits_0 11 rfl rfl)
theorem dX2_bits_12 : decode cX2_bits 12 = .ok (.iload_n 2, 1) := dk_28 (dk_at dksX2_bits_0 12 rfl rfl)
theorem dX2_bits_13 : decode cX2_bits 13 = .ok (.ishr, 1) := dk_122 (dk_at dksX2_bits_0 13 rfl rfl)
theorem dX2_bits_14 : decode cX2_bits 14 = .ok (.iconst 1, 1) := dk_4 (dk_at dksX2_bits_0 14 rfl rfl)
theorem dX2_bits_15 : decode cX2_bits 15 = .ok (.iand, 1) := dk_126 (dk_at dksX2_bits_0 15 rfl rfl)
theorem dX2_bits_16 : decode cX2_bits 16 = .ok (.iadd, 1) := dk_96 (dk_at dksX2_bits_0 16 rfl rfl)
theorem dX2_bits_17 : decode cX2_bits 17 = .ok (.istore_n 1, 1) := dk_60 (dk_at dksX2_bits_0 17 rfl rfl)
theorem dX2_bits_18 : decode cX2_bits 18 = .ok (.iinc 2 1, 3) := dk_132 2 1 (dk_at dksX2_bits_0 18 rfl rfl)
theorem dX2_bits_21 : decode cX2_bits 21 = .ok (.goto (-17), 3) := dk_167 255 239 (dk_at dksX2_bits_0 21 rfl rfl)
theorem dX2_bits_24 : decode cX2_bits 24 = .ok (.iload_n 1, 1) := dk_27 (dk_at dksX2_bits_1 0 rfl rfl)
theorem dX2_bits_25 : decode cX2_bits 25 = .ok (.ireturn, 1) := dk_172 (dk_at dksX2_bits_1 1 rfl rfl)
abbrev MX2_bits : jjM := (yX2_bits, cX2_bits, 3, (Option.some Jvm.ClassFile.FieldType.int))
theorem npX2_bits : yX2_bits.cls ≠ "java/lang/invoke/MethodHandle" ∧ yX2_bits.cls ≠ "java/lang/invoke/VarHandle" ∧ (parseMethodDescriptor yX2_bits.desc).map (fun d => d.parameters.length) = some 1 := by decide +kernel
abbrev cX2_laySet : ByteArray := prog_17_method_112_code
def yX2_laySet : MethodName := ⟨RX2, "laySet", "(I)V"⟩
def dkwX2_laySet_0 : List UInt8 := [42, 182, 1, 129, 42, 27, 182, 1, 189, 177]
abbrev dktX2_laySet_0 : List UInt8 := dkwX2_laySet_0 ++ []
theorem dksX2_laySet_0 : cX2_laySet.data.toList.drop 0 = dktX2_laySet_0 := by decide +kernel
theorem dX2_laySet_0 : decode cX2_laySet 0 = .ok (.aload_n 0, 1) := dk_42 (dk_at dksX2_laySet_0 0 rfl rfl)
theorem dX2_laySet_1 : decode cX2_laySet 1 = .ok (.invokevirtual 385, 3) := dk_182 1 129 (dk_at dksX2_laySet_0 1 rfl rfl)
theorem dX2_laySet_4 : decode cX2_laySet 4 = .ok (.aload_n 0, 1) := dk_42 (dk_at dksX2_laySet_0 4 rfl rfl)
theorem dX2_laySet_5 : decode cX2_laySet 5 = .ok (.iload_n 1, 1) := dk_27 (dk_at dksX2_laySet_0 5 rfl rfl)
theorem dX2_laySet_6 : decode cX2_laySet 6 = .ok (.invokevirtual 445, 3) := dk_182 1 189 (dk_at dksX2_laySet_0 6 rfl rfl)
theorem dX2_laySet_9 : decode cX2_laySet 9 = .ok (.return_, 1) := dk_177 (dk_at dksX2_laySet_0 9 rfl rfl)
abbrev MX2_laySet : jjM := (yX2_laySet, cX2_laySet, 2, (Option.none : Option Jvm.ClassFile.FieldType))
theorem npX2_laySet : yX2_laySet.cls ≠ "java/lang/invoke/MethodHandle" ∧ yX2_laySet.cls ≠ "java/lang/invoke/VarHandle" ∧ (parseMethodDescriptor yX2_laySet.desc).map (fun d => d.parameters.length) = some 1 := by decide +kernel
abbrev cX2_layElements : ByteArray := prog_17_method_110_code
def yX2_layElements : MethodName := ⟨RX2, "layElements", "(I)V"⟩
def dkwX2_layElements_2 : List UInt8 := [181, 1, 156, 132, 2, 1, 167, 255, 212, 42, 182, 1, 180, 42, 182, 1, 183, 177]
abbrev dktX2_layElements_2 : List UInt8 := dkwX2_layElements_2 ++ []
def dkwX2_layElements_1 : List UInt8 := [154, 0, 6, 167, 0, 23, 42, 180, 0, 61, 42, 180, 1, 156, 28, 79, 42, 89, 180, 1, 156, 4, 96]
abbrev dktX2_layElements_1 : List UInt8 := dkwX2_layElements_1 ++ dktX2_layElements_2
def dkwX2_layElements_0 : List UInt8 := [42, 3, 181, 1, 156, 3, 61, 28, 42, 180, 0, 7, 3, 46, 162, 0, 40, 27, 28, 184, 1, 165]
abbrev dktX2_layElements_0 : List UInt8 := dkwX2_layElements_0 ++ dktX2_layElements_1
theorem dksX2_layElements_0 : cX2_layElements.data.toList.drop 0 = dktX2_layElements_0 := by decide +kernel
theorem dksX2_layElements_1 : cX2_layElements.data.toList.drop 22 = dktX2_layElements_1 := dk_seg dksX2_layElements_0 22 rfl rfl
theorem dksX2_layElements_2 : cX2_layElements.data.toList.drop 45 = dktX2_layElements_2 := dk_seg dksX2_layElements_1 23 rfl rfl
theorem dX2_layElements_0 : decode cX2_layElements 0 = .ok (.aload_n 0, 1) := dk_42 (dk_at dksX2_layElements_0 0 rfl rfl)
theorem dX2_layElements_1 : decode cX2_layElements 1 = .ok (.iconst 0, 1) := dk_3 (dk_at dksX2_layElements_0 1 rfl rfl)
theorem dX2_layElements_2 : decode cX2_layElements 2 = .ok (.putfield 412, 3) := dk_181 1 156 (dk_at dksX2_layElements_0 2 rfl rfl)
theorem dX2_layElements_5 : decode cX2_layElements 5 = .ok (.iconst 0, 1) := dk_3 (dk_at dksX2_layElements_0 5 rfl rfl)
theorem dX2_layElements_6 : decode cX2_layElements 6 = .ok (.istore_n 2, 1) := dk_61 (dk_at dksX2_layElements_0 6 rfl rfl)
theorem dX2_layElements_7 : decode cX2_layElements 7 = .ok (.iload_n 2, 1) := dk_28 (dk_at dksX2_layElements_0 7 rfl rfl)
theorem dX2_layElements_8 : decode cX2_layElements 8 = .ok (.aload_n 0, 1) := dk_42 (dk_at dksX2_layElements_0 8 rfl rfl)
theorem dX2_layElements_9 : decode cX2_layElements 9 = .ok (.getfield 7, 3) := dk_180 0 7 (dk_at dksX2_layElements_0 9 rfl rfl)
theorem dX2_layElements_12 : decode cX2_layElements 12 = .ok (.iconst 0, 1) := dk_3 (dk_at dksX2_layElements_0 12 rfl rfl)
theorem dX2_layElements_13 : decode cX2_layElements 13 = .ok (.iaload, 1) := dk_46 (dk_at dksX2_layElements_0 13 rfl rfl)
theorem dX2_layElements_14 : decode cX2_layElements 14 = .ok (.if_icmp .ge 40, 3) := dk_162 0 40 (dk_at dksX2_layElements_0 14 rfl rfl)
theorem dX2_layElements_17 : decode cX2_layElements 17 = .ok (.iload_n 1, 1) := dk_27 (dk_at dksX2_layElements_0 17 rfl rfl)
theorem dX2_layElements_18 : decode cX2_layElements 18 = .ok (.iload_n 2, 1) := dk_28 (dk_at dksX2_layElements_0 18 rfl rfl)
theorem dX2_layElements_19 : decode cX2_layElements 19 = .ok (.invokestatic 421, 3) := dk_184 1 165 (dk_at dksX2_layElements_0 19 rfl rfl)
theorem dX2_layElements_22 : decode cX2_layElements 22 = .ok (.ifCond .ne 6, 3) := dk_154 0 6 (dk_at dksX2_layElements_1 0 rfl rfl)
theorem dX2_layElements_25 : decode cX2_layElements 25 = .ok (.goto 23, 3) := dk_167 0 23 (dk_at dksX2_layElements_1 3 rfl rfl)
theorem dX2_layElements_28 : decode cX2_layElements 28 = .ok (.aload_n 0, 1) := dk_42 (dk_at dksX2_layElements_1 6 rfl rfl)
theorem dX2_layElements_29 : decode cX2_layElements 29 = .ok (.getfield 61, 3) := dk_180 0 61 (dk_at dksX2_layElements_1 7 rfl rfl)
theorem dX2_layElements_32 : decode cX2_layElements 32 = .ok (.aload_n 0, 1) := dk_42 (dk_at dksX2_layElements_1 10 rfl rfl)
theorem dX2_layElements_33 : decode cX2_layElements 33 = .ok (.getfield 412, 3) := dk_180 1 156 (dk_at dksX2_layElements_1 11 rfl rfl)
theorem dX2_layElements_36 : decode cX2_layElements 36 = .ok (.iload_n 2, 1) := dk_28 (dk_at dksX2_layElements_1 14 rfl rfl)
theorem dX2_layElements_37 : decode cX2_layElements 37 = .ok (.iastore, 1) := dk_79 (dk_at dksX2_layElements_1 15 rfl rfl)
theorem dX2_layElements_38 : decode cX2_layElements 38 = .ok (.aload_n 0, 1) := dk_42 (dk_at dksX2_layElements_1 16 rfl rfl)
theorem dX2_layElements_39 : decode cX2_layElements 39 = .ok (.dup, 1) := dk_89 (dk_at dksX2_layElements_1 17 rfl rfl)
theorem dX2_layElements_40 : decode cX2_layElements 40 = .ok (.getfield 412, 3) := dk_180 1 156 (dk_at dksX2_layElements_1 18 rfl rfl)
theorem dX2_layElements_43 : decode cX2_layElements 43 = .ok (.iconst 1, 1) := dk_4 (dk_at dksX2_layElements_1 21 rfl rfl)
theorem dX2_layElements_44 : decode cX2_layElements 44 = .ok (.iadd, 1) := dk_96 (dk_at dksX2_layElements_1 22 rfl rfl)
theorem dX2_layElements_45 : decode cX2_layElements 45 = .ok (.putfield 412, 3) := dk_181 1 156 (dk_at dksX2_layElements_2 0 rfl rfl)
theorem dX2_layElements_48 : decode cX2_layElements 48 = .ok (.iinc 2 1, 3) := dk_132 2 1 (dk_at dksX2_layElements_2 3 rfl rfl)
theorem dX2_layElements_51 : decode cX2_layElements 51 = .ok (.goto (-44), 3) := dk_167 255 212 (dk_at dksX2_layElements_2 6 rfl rfl)
theorem dX2_layElements_54 : decode cX2_layElements 54 = .ok (.aload_n 0, 1) := dk_42 (dk_at dksX2_layElements_2 9 rfl rfl)
theorem dX2_layElements_55 : decode cX2_layElements 55 = .ok (.invokevirtual 436, 3) := dk_182 1 180 (dk_at dksX2_layElements_2 10 rfl rfl)
theorem dX2_layElements_58 : decode cX2_layElements 58 = .ok (.aload_n 0, 1) := dk_42 (dk_at dksX2_layElements_2 13 rfl rfl)
theorem dX2_layElements_59 : decode cX2_layElements 59 = .ok (.invokevirtual 439, 3) := dk_182 1 183 (dk_at dksX2_layElements_2 14 rfl rfl)
theorem dX2_layElements_62 : decode cX2_layElements 62 = .ok (.return_, 1) := dk_177 (dk_at dksX2_layElements_2 17 rfl rfl)
abbrev MX2_layElements : jjM := (yX2_layElements, cX2_layElements, 3, (Option.none : Option Jvm.ClassFile.FieldType))
theorem npX2_layElements : yX2_layElements.cls ≠ "java/lang/invoke/MethodHandle" ∧ yX2_layElements.cls ≠ "java/lang/invoke/VarHandle" ∧ (parseMethodDescriptor yX2_layElements.desc).map (fun d => d.parameters.length) = some 1 := by decide +kernel
abbrev cX2_has : ByteArray := prog_17_method_4_code
def yX2_has : MethodName := ⟨RX2, "has", "(II)Z"⟩
def dkwX2_has_0 : List UInt8 := [26, 27, 122, 4, 126, 4, 160, 0, 7, 4, 167, 0, 4, 3, 172]
abbrev dktX2_has_0 : List UInt8 := dkwX2_has_0 ++ []
theorem dksX2_has_0 : cX2_has.data.toList.drop 0 = dktX2_has_0 := by decide +kernel
theorem dX2_has_0 : decode cX2_has 0 = .ok (.iload_n 0, 1) := dk_26 (dk_at dksX2_has_0 0 rfl rfl)
theorem dX2_has_1 : decode cX2_has 1 = .ok (.iload_n 1, 1) := dk_27 (dk_at dksX2_has_0 1 rfl rfl)
theorem dX2_has_2 : decode cX2_has 2 = .ok (.ishr, 1) := dk_122 (dk_at dksX2_has_0 2 rfl rfl)
theorem dX2_has_3 : decode cX2_has 3 = .ok (.iconst 1, 1) := dk_4 (dk_at dksX2_has_0 3 rfl rfl)
theorem dX2_has_4 : decode cX2_has 4 = .ok (.iand, 1) := dk_126 (dk_at dksX2_has_0 4 rfl rfl)
theorem dX2_has_5 : decode cX2_has 5 = .ok (.iconst 1, 1) := dk_4 (dk_at dksX2_has_0 5 rfl rfl)
theorem dX2_has_6 : decode cX2_has 6 = .ok (.if_icmp .ne 7, 3) := dk_160 0 7 (dk_at dksX2_has_0 6 rfl rfl)
theorem dX2_has_9 : decode cX2_has 9 = .ok (.iconst 1, 1) := dk_4 (dk_at dksX2_has_0 9 rfl rfl)
theorem dX2_has_10 : decode cX2_has 10 = .ok (.goto 4, 3) := dk_167 0 4 (dk_at dksX2_has_0 10 rfl rfl)
theorem dX2_has_13 : decode cX2_has 13 = .ok (.iconst 0, 1) := dk_3 (dk_at dksX2_has_0 13 rfl rfl)
theorem dX2_has_14 : decode cX2_has 14 = .ok (.ireturn, 1) := dk_172 (dk_at dksX2_has_0 14 rfl rfl)
abbrev MX2_has : jjM := (yX2_has, cX2_has, 2, (Option.some Jvm.ClassFile.FieldType.boolean))
theorem npX2_has : yX2_has.cls ≠ "java/lang/invoke/MethodHandle" ∧ yX2_has.cls ≠ "java/lang/invoke/VarHandle" ∧ (parseMethodDescriptor yX2_has.desc).map (fun d => d.parameters.length) = some 2 := by decide +kernel
abbrev cX2_findOrders : ByteArray := prog_17_method_108_code
def yX2_findOrders : MethodName := ⟨RX2, "findOrders", "()V"⟩
def dkwX2_findOrders_5 : List UInt8 := [21, 7, 79, 29, 4, 21, 7, 120, 128, 62, 132, 4, 1, 167, 255, 156, 132, 1, 1, 167, 255, 135, 177]
abbrev dktX2_findOrders_5 : List UInt8 := dkwX2_findOrders_5 ++ []
def dkwX2_findOrders_4 : List UInt8 := [167, 0, 4, 4, 100, 54, 6, 132, 7, 1, 167, 255, 220, 42, 180, 0, 52, 16, 6, 27, 104, 21, 4, 96]
abbrev dktX2_findOrders_4 : List UInt8 := dkwX2_findOrders_4 ++ dktX2_findOrders_5
def dkwX2_findOrders_3 : List UInt8 := [184, 1, 165, 154, 0, 8, 21, 6, 158, 0, 28, 21, 6, 29, 21, 7, 184, 1, 165, 153, 0, 7, 3]
abbrev dktX2_findOrders_3 : List UInt8 := dkwX2_findOrders_3 ++ dktX2_findOrders_4
def dkwX2_findOrders_2 : List UInt8 := [184, 1, 159, 54, 5, 28, 21, 5, 108, 54, 6, 28, 21, 5, 112, 61, 3, 54, 7, 29, 21, 7]
abbrev dktX2_findOrders_2 : List UInt8 := dkwX2_findOrders_2 ++ dktX2_findOrders_3
def dkwX2_findOrders_1 : List UInt8 := [62, 3, 54, 4, 21, 4, 42, 180, 1, 156, 162, 0, 97, 42, 180, 1, 156, 4, 100, 21, 4, 100]
abbrev dktX2_findOrders_1 : List UInt8 := dkwX2_findOrders_1 ++ dktX2_findOrders_2
def dkwX2_findOrders_0 : List UInt8 := [42, 42, 180, 1, 156, 184, 1, 159, 181, 1, 162, 3, 60, 27, 42, 180, 1, 162, 162, 0, 119, 27, 61, 3]
abbrev dktX2_findOrders_0 : List UInt8 := dkwX2_findOrders_0 ++ dktX2_findOrders_1
theorem dksX2_findOrders_0 : cX2_findOrders.data.toList.drop 0 = dktX2_findOrders_0 := by decide +kernel
theorem dksX2_findOrders_1 : cX2_findOrders.data.toList.drop 24 = dktX2_findOrders_1 := dk_seg dksX2_findOrders_0 24 rfl rfl
theorem dksX2_findOrders_2 : cX2_findOrders.data.toList.drop 46 = dktX2_findOrders_2 := dk_seg dksX2_findOrders_1 22 rfl rfl
theorem dksX2_findOrders_3 : cX2_findOrders.data.toList.drop 68 = dktX2_findOrders_3 := dk_seg dksX2_findOrders_2 22 rfl rfl
theorem dksX2_findOrders_4 : cX2_findOrders.data.toList.drop 91 = dktX2_findOrders_4 := dk_seg dksX2_findOrders_3 23 rfl rfl
theorem dksX2_findOrders_5 : cX2_findOrders.data.toList.drop 115 = dktX2_findOrders_5 := dk_seg dksX2_findOrders_4 24 rfl rfl
theorem dX2_findOrders_0 : decode cX2_findOrders 0 = .ok (.aload_n 0, 1) := dk_42 (dk_at dksX2_findOrders_0 0 rfl rfl)
theorem dX2_findOrders_1 : decode cX2_findOrders 1 = .ok (.aload_n 0, 1) := dk_42 (dk_at dksX2_findOrders_0 1 rfl rfl)
theorem dX2_findOrders_2 : decode cX2_findOrders 2 = .ok (.getfield 412, 3) := dk_180 1 156 (dk_at dksX2_findOrders_0 2 rfl rfl)
theorem dX2_findOrders_5 : decode cX2_findOrders 5 = .ok (.invokestatic 415, 3) := dk_184 1 159 (dk_at dksX2_findOrders_0 5 rfl rfl)
theorem dX2_findOrders_8 : decode cX2_findOrders 8 = .ok (.putfield 418, 3) := dk_181 1 162 (dk_at dksX2_findOrders_0 8 rfl rfl)
theorem dX2_findOrders_11 : decode cX2_findOrders 11 = .ok (.iconst 0, 1) := dk_3 (dk_at dksX2_findOrders_0 11 rfl rfl)
theorem dX2_findOrders_12 : decode cX2_findOrders 12 = .ok (.istore_n 1, 1) := dk_60 (dk_at dksX2_findOrders_0 12 rfl rfl)
theorem dX2_findOrders_13 : decode cX2_findOrders 13 = .ok (.iload_n 1, 1) := dk_27 (dk_at dksX2_findOrders_0 13 rfl rfl)
theorem dX2_findOrders_14 : decode cX2_findOrders 14 = .ok (.aload_n 0, 1) := dk_42 (dk_at dksX2_findOrders_0 14 rfl rfl)
theorem dX2_findOrders_15 : decode cX2_findOrders 15 = .ok (.getfield 418, 3) := dk_180 1 162 (dk_at dksX2_findOrders_0 15 rfl rfl)
theorem dX2_findOrders_18 : decode cX2_findOrders 18 = .ok (.if_icmp .ge 119, 3) := dk_162 0 119 (dk_at dksX2_findOrders_0 18 rfl rfl)
theorem dX2_findOrders_21 : decode cX2_findOrders 21 = .ok (.iload_n 1, 1) := dk_27 (dk_at dksX2_findOrders_0 21 rfl rfl)
theorem dX2_findOrders_22 : decode cX2_findOrders 22 = .ok (.istore_n 2, 1) := dk_61 (dk_at dksX2_findOrders_0 22 rfl rfl)
theorem dX2_findOrders_23 : decode cX2_findOrders 23 = .ok (.iconst 0, 1) := dk_3 (dk_at dksX2_findOrders_0 23 rfl rfl)
theorem dX2_findOrders_24 : decode cX2_findOrders 24 = .ok (.istore_n 3, 1) := dk_62 (dk_at dksX2_findOrders_1 0 rfl rfl)
theorem dX2_findOrders_25 : decode cX2_findOrders 25 = .ok (.iconst 0, 1) := dk_3 (dk_at dksX2_findOrders_1 1 rfl rfl)
theorem dX2_findOrders_26 : decode cX2_findOrders 26 = .ok (.istore 4, 2) := dk_54 4 (dk_at dksX2_findOrders_1 2 rfl rfl)
theorem dX2_findOrders_28 : decode cX2_findOrders 28 = .ok (.iload 4, 2) := dk_21 4 (dk_at dksX2_findOrders_1 4 rfl rfl)
theorem dX2_findOrders_30 : decode cX2_findOrders 30 = .ok (.aload_n 0, 1) := dk_42 (dk_at dksX2_findOrders_1 6 rfl rfl)
theorem dX2_findOrders_31 : decode cX2_findOrders 31 = .ok (.getfield 412, 3) := dk_180 1 156 (dk_at dksX2_findOrders_1 7 rfl rfl)
theorem dX2_findOrders_34 : decode cX2_findOrders 34 = .ok (.if_icmp .ge 97, 3) := dk_162 0 97 (dk_at dksX2_findOrders_1 10 rfl rfl)
theorem dX2_findOrders_37 : decode cX2_findOrders 37 = .ok (.aload_n 0, 1) := dk_42 (dk_at dksX2_findOrders_1 13 rfl rfl)
theorem dX2_findOrders_38 : decode cX2_findOrders 38 = .ok (.getfield 412, 3) := dk_180 1 156 (dk_at dksX2_findOrders_1 14 rfl rfl)
theorem dX2_findOrders_41 : decode cX2_findOrders 41 = .ok (.iconst 1, 1) := dk_4 (dk_at dksX2_findOrders_1 17 rfl rfl)
theorem dX2_findOrders_42 : decode cX2_findOrders 42 = .ok (.isub, 1) := dk_100 (dk_at dksX2_findOrders_1 18 rfl rfl)
theorem dX2_findOrders_43 : decode cX2_findOrders 43 = .ok (.iload 4, 2) := dk_21 4 (dk_at dksX2_findOrders_1 19 rfl rfl)
theorem dX2_findOrders_45 : decode cX2_findOrders 45 = .ok (.isub, 1) := dk_100 (dk_at dksX2_findOrders_1 21 rfl rfl)
theorem dX2_findOrders_46 : decode cX2_findOrders 46 = .ok (.invokestatic 415, 3) := dk_184 1 159 (dk_at dksX2_findOrders_2 0 rfl rfl)
theorem dX2_findOrders_49 : decode cX2_findOrders 49 = .ok (.istore 5, 2) := dk_54 5 (dk_at dksX2_findOrders_2 3 rfl rfl)
theorem dX2_findOrders_51 : decode cX2_findOrders 51 = .ok (.iload_n 2, 1) := dk_28 (dk_at dksX2_findOrders_2 5 rfl rfl)
theorem dX2_findOrders_52 : decode cX2_findOrders 52 = .ok (.iload 5, 2) := dk_21 5 (dk_at dksX2_findOrders_2 6 rfl rfl)
theorem dX2_findOrders_54 : decode cX2_findOrders 54 = .ok (.idiv, 1) := dk_108 (dk_at dksX2_findOrders_2 8 rfl rfl)
theorem dX2_findOrders_55 : decode cX2_findOrders 55 = .ok (.istore 6, 2) := dk_54 6 (dk_at dksX2_findOrders_2 9 rfl rfl)
theorem dX2_findOrders_57 : decode cX2_findOrders 57 = .ok (.iload_n 2, 1) := dk_28 (dk_at dksX2_findOrders_2 11 rfl rfl)
theorem dX2_findOrders_58 : decode cX2_findOrders 58 = .ok (.iload 5, 2) := dk_21 5 (dk_at dksX2_findOrders_2 12 rfl rfl)
theorem dX2_findOrders_60 : decode cX2_findOrders 60 = .ok (.irem, 1) := dk_112 (dk_at dksX2_findOrders_2 14 rfl rfl)
theorem dX2_findOrders_61 : decode cX2_findOrders 61 = .ok (.istore_n 2, 1) := dk_61 (dk_at dksX2_findOrders_2 15 rfl rfl)
theorem dX2_findOrders_62 : decode cX2_findOrders 62 = .ok (.iconst 0, 1) := dk_3 (dk_at dksX2_findOrders_2 16 rfl rfl)
theorem dX2_findOrders_63 : decode cX2_findOrders 63 = .ok (.istore 7, 2) := dk_54 7 (dk_at dksX2_findOrders_2 17 rfl rfl)
theorem dX2_findOrders_65 : decode cX2_findOrders 65 = .ok (.iload_n 3, 1) := dk_29 (dk_at dksX2_findOrders_2 19 rfl rfl)
theorem dX2_findOrders_66 : decode cX2_findOrders 66 = .ok (.iload 7, 2) := dk_21 7 (dk_at dksX2_findOrders_2 20 rfl rfl)
theorem dX2_findOrders_68 : decode cX2_findOrders 68 = .ok (.invokestatic 421, 3) := dk_184 1 165 (dk_at dksX2_findOrders_3 0 rfl rfl)
theorem dX2_findOrders_71 : decode cX2_findOrders 71 = .ok (.ifCond .ne 8, 3) := dk_154 0 8 (dk_at dksX2_findOrders_3 3 rfl rfl)
theorem dX2_findOrders_74 : decode cX2_findOrders 74 = .ok (.iload 6, 2) := dk_21 6 (dk_at dksX2_findOrders_3 6 rfl rfl)
theorem dX2_findOrders_76 : decode cX2_findOrders 76 = .ok (.ifCond .le 28, 3) := dk_158 0 28 (dk_at dksX2_findOrders_3 8 rfl rfl)
theorem dX2_findOrders_79 : decode cX2_findOrders 79 = .ok (.iload 6, 2) := dk_21 6 (dk_at dksX2_findOrders_3 11 rfl rfl)
theorem dX2_findOrders_81 : decode cX2_findOrders 81 = .ok (.iload_n 3, 1) := dk_29 (dk_at dksX2_findOrders_3 13 rfl rfl)
theorem dX2_findOrders_82 : decode cX2_findOrders 82 = .ok (.iload 7, 2) := dk_21 7 (dk_at dksX2_findOrders_3 14 rfl rfl)
theorem dX2_findOrders_84 : decode cX2_findOrders 84 = .ok (.invokestatic 421, 3) := dk_184 1 165 (dk_at dksX2_findOrders_3 16 rfl rfl)
theorem dX2_findOrders_87 : decode cX2_findOrders 87 = .ok (.ifCond .eq 7, 3) := dk_153 0 7 (dk_at dksX2_findOrders_3 19 rfl rfl)
theorem dX2_findOrders_90 : decode cX2_findOrders 90 = .ok (.iconst 0, 1) := dk_3 (dk_at dksX2_findOrders_3 22 rfl rfl)
theorem dX2_findOrders_91 : decode cX2_findOrders 91 = .ok (.goto 4, 3) := dk_167 0 4 (dk_at dksX2_findOrders_4 0 rfl rfl)
theorem dX2_findOrders_94 : decode cX2_findOrders 94 = .ok (.iconst 1, 1) := dk_4 (dk_at dksX2_findOrders_4 3 rfl rfl)
theorem dX2_findOrders_95 : decode cX2_findOrders 95 = .ok (.isub, 1) := dk_100 (dk_at dksX2_findOrders_4 4 rfl rfl)
theorem dX2_findOrders_96 : decode cX2_findOrders 96 = .ok (.istore 6, 2) := dk_54 6 (dk_at dksX2_findOrders_4 5 rfl rfl)
theorem dX2_findOrders_98 : decode cX2_findOrders 98 = .ok (.iinc 7 1, 3) := dk_132 7 1 (dk_at dksX2_findOrders_4 7 rfl rfl)
theorem dX2_findOrders_101 : decode cX2_findOrders 101 = .ok (.goto (-36), 3) := dk_167 255 220 (dk_at dksX2_findOrders_4 10 rfl rfl)
theorem dX2_findOrders_104 : decode cX2_findOrders 104 = .ok (.aload_n 0, 1) := dk_42 (dk_at dksX2_findOrders_4 13 rfl rfl)
theorem dX2_findOrders_105 : decode cX2_findOrders 105 = .ok (.getfield 52, 3) := dk_180 0 52 (dk_at dksX2_findOrders_4 14 rfl rfl)
theorem dX2_findOrders_108 : decode cX2_findOrders 108 = .ok (.bipush 6, 2) := dk_16 6 (dk_at dksX2_findOrders_4 17 rfl rfl)
theorem dX2_findOrders_110 : decode cX2_findOrders 110 = .ok (.iload_n 1, 1) := dk_27 (dk_at dksX2_findOrders_4 19 rfl rfl)
theorem dX2_findOrders_111 : decode cX2_findOrders 111 = .ok (.imul, 1) := dk_104 (dk_at dksX2_findOrders_4 20 rfl rfl)
theorem dX2_findOrders_112 : decode cX2_findOrders 112 = .ok (.iload 4, 2) := dk_21 4 (dk_at dksX2_findOrders_4 21 rfl rfl)
theorem dX2_findOrders_114 : decode cX2_findOrders 114 = .ok (.iadd, 1) := dk_96 (dk_at dksX2_findOrders_4 23 rfl rfl)
theorem dX2_findOrders_115 : decode cX2_findOrders 115 = .ok (.iload 7, 2) := dk_21 7 (dk_at dksX2_findOrders_5 0 rfl rfl)
theorem dX2_findOrders_117 : decode cX2_findOrders 117 = .ok (.iastore, 1) := dk_79 (dk_at dksX2_findOrders_5 2 rfl rfl)
theorem dX2_findOrders_118 : decode cX2_findOrders 118 = .ok (.iload_n 3, 1) := dk_29 (dk_at dksX2_findOrders_5 3 rfl rfl)
theorem dX2_findOrders_119 : decode cX2_findOrders 119 = .ok (.iconst 1, 1) := dk_4 (dk_at dksX2_findOrders_5 4 rfl rfl)
theorem dX2_findOrders_120 : decode cX2_findOrders 120 = .ok (.iload 7, 2) := dk_21 7 (dk_at dksX2_findOrders_5 5 rfl rfl)
theorem dX2_findOrders_122 : decode cX2_findOrders 122 = .ok (.ishl, 1) := dk_120 (dk_at dksX2_findOrders_5 7 rfl rfl)
theorem dX2_findOrders_123 : decode cX2_findOrders 123 = .ok (.ior, 1) := dk_128 (dk_at dksX2_findOrders_5 8 rfl rfl)
theorem dX2_findOrders_124 : decode cX2_findOrders 124 = .ok (.istore_n 3, 1) := dk_62 (dk_at dksX2_findOrders_5 9 rfl rfl)
theorem dX2_findOrders_125 : decode cX2_findOrders 125 = .ok (.iinc 4 1, 3) := dk_132 4 1 (dk_at dksX2_findOrders_5 10 rfl rfl)
theorem dX2_findOrders_128 : decode cX2_findOrders 128 = .ok (.goto (-100), 3) := dk_167 255 156 (dk_at dksX2_findOrders_5 13 rfl rfl)
theorem dX2_findOrders_131 : decode cX2_findOrders 131 = .ok (.iinc 1 1, 3) := dk_132 1 1 (dk_at dksX2_findOrders_5 16 rfl rfl)
theorem dX2_findOrders_134 : decode cX2_findOrders 134 = .ok (.goto (-121), 3) := dk_167 255 135 (dk_at dksX2_findOrders_5 19 rfl rfl)
theorem dX2_findOrders_137 : decode cX2_findOrders 137 = .ok (.return_, 1) := dk_177 (dk_at dksX2_findOrders_5 22 rfl rfl)
abbrev MX2_findOrders : jjM := (yX2_findOrders, cX2_findOrders, 8, (Option.none : Option Jvm.ClassFile.FieldType))
theorem npX2_findOrders : yX2_findOrders.cls ≠ "java/lang/invoke/MethodHandle" ∧ yX2_findOrders.cls ≠ "java/lang/invoke/VarHandle" ∧ (parseMethodDescriptor yX2_findOrders.desc).map (fun d => d.parameters.length) = some 0 := by decide +kernel
abbrev cX2_factorial : ByteArray := prog_17_method_103_code
def yX2_factorial : MethodName := ⟨RX2, "factorial", "(I)I"⟩
def dkwX2_factorial_0 : List UInt8 := [4, 60, 5, 61, 28, 26, 163, 0, 13, 27, 28, 104, 60, 132, 2, 1, 167, 255, 244, 27, 172]
abbrev dktX2_factorial_0 : List UInt8 := dkwX2_factorial_0 ++ []
theorem dksX2_factorial_0 : cX2_factorial.data.toList.drop 0 = dktX2_factorial_0 := by decide +kernel
theorem dX2_factorial_0 : decode cX2_factorial 0 = .ok (.iconst 1, 1) := dk_4 (dk_at dksX2_factorial_0 0 rfl rfl)
theorem dX2_factorial_1 : decode cX2_factorial 1 = .ok (.istore_n 1, 1) := dk_60 (dk_at dksX2_factorial_0 1 rfl rfl)
theorem dX2_factorial_2 : decode cX2_factorial 2 = .ok (.iconst 2, 1) := dk_5 (dk_at dksX2_factorial_0 2 rfl rfl)
theorem dX2_factorial_3 : decode cX2_factorial 3 = .ok (.istore_n 2, 1) := dk_61 (dk_at dksX2_factorial_0 3 rfl rfl)
theorem dX2_factorial_4 : decode cX2_factorial 4 = .ok (.iload_n 2, 1) := dk_28 (dk_at dksX2_factorial_0 4 rfl rfl)
theorem dX2_factorial_5 : decode cX2_factorial 5 = .ok (.iload_n 0, 1) := dk_26 (dk_at dksX2_factorial_0 5 rfl rfl)
theorem dX2_factorial_6 : decode cX2_factorial 6 = .ok (.if_icmp .gt 13, 3) := dk_163 0 13 (dk_at dksX2_factorial_0 6 rfl rfl)
theorem dX2_factorial_9 : decode cX2_factorial 9 = .ok (.iload_n 1, 1) := dk_27 (dk_at dksX2_factorial_0 9 rfl rfl)
theorem dX2_factorial_10 : decode cX2_factorial 10 = .ok (.iload_n 2, 1) := dk_28 (dk_at dksX2_factorial_0 10 rfl rfl)
theorem dX2_factorial_11 : decode cX2_factorial 11 = .ok (.imul, 1) := dk_104 (dk_at dksX2_factorial_0 11 rfl rfl)
theorem dX2_factorial_12 : decode cX2_factorial 12 = .ok (.istore_n 1, 1) := dk_60 (dk_at dksX2_factorial_0 12 rfl rfl)
theorem dX2_factorial_13 : decode cX2_factorial 13 = .ok (.iinc 2 1, 3) := dk_132 2 1 (dk_at dksX2_factorial_0 13 rfl rfl)
theorem dX2_factorial_16 : decode cX2_factorial 16 = .ok (.goto (-12), 3) := dk_167 255 244 (dk_at dksX2_factorial_0 16 rfl rfl)
theorem dX2_factorial_19 : decode cX2_factorial 19 = .ok (.iload_n 1, 1) := dk_27 (dk_at dksX2_factorial_0 19 rfl rfl)
theorem dX2_factorial_20 : decode cX2_factorial 20 = .ok (.ireturn, 1) := dk_172 (dk_at dksX2_factorial_0 20 rfl rfl)
abbrev MX2_factorial : jjM := (yX2_factorial, cX2_factorial, 3, (Option.some Jvm.ClassFile.FieldType.int))
theorem npX2_factorial : yX2_factorial.cls ≠ "java/lang/invoke/MethodHandle" ∧ yX2_factorial.cls ≠ "java/lang/invoke/VarHandle" ∧ (parseMethodDescriptor yX2_factorial.desc).map (fun d => d.parameters.length) = some 1 := by decide +kernel
abbrev cX2_findLeads : ByteArray := prog_17_method_109_code
def yX2_findLeads : MethodName := ⟨RX2, "findLeads", "()V"⟩
def dkwX2_findLeads_5 : List UInt8 := [154, 0, 7, 4, 167, 0, 4, 3, 84, 132, 2, 1, 167, 255, 215, 132, 1, 1, 167, 255, 124, 177]
abbrev dktX2_findLeads_5 : List UInt8 := dkwX2_findLeads_5 ++ []
def dkwX2_findLeads_4 : List UInt8 := [162, 0, 37, 42, 180, 0, 58, 27, 42, 180, 0, 58, 27, 51, 153, 0, 15, 42, 28, 182, 1, 171]
abbrev dktX2_findLeads_4 : List UInt8 := dkwX2_findLeads_4 ++ dktX2_findLeads_5
def dkwX2_findLeads_3 : List UInt8 := [167, 255, 198, 42, 27, 182, 1, 168, 42, 180, 0, 58, 27, 4, 84, 3, 61, 28, 4, 96, 42, 180, 1, 156]
abbrev dktX2_findLeads_3 : List UInt8 := dkwX2_findLeads_3 ++ dktX2_findLeads_4
def dkwX2_findLeads_2 : List UInt8 := [132, 3, 2, 167, 255, 230, 42, 180, 0, 55, 5, 27, 104, 28, 96, 42, 182, 1, 177, 79, 132, 2, 1]
abbrev dktX2_findLeads_2 : List UInt8 := dkwX2_findLeads_2 ++ dktX2_findLeads_3
def dkwX2_findLeads_1 : List UInt8 := [29, 4, 96, 42, 180, 1, 156, 162, 0, 22, 42, 29, 182, 1, 171, 153, 0, 8, 42, 29, 182, 1, 174]
abbrev dktX2_findLeads_1 : List UInt8 := dkwX2_findLeads_1 ++ dktX2_findLeads_2
def dkwX2_findLeads_0 : List UInt8 := [3, 60, 27, 42, 180, 1, 162, 162, 0, 130, 3, 61, 28, 5, 162, 0, 59, 42, 27, 182, 1, 168, 28, 62]
abbrev dktX2_findLeads_0 : List UInt8 := dkwX2_findLeads_0 ++ dktX2_findLeads_1
theorem dksX2_findLeads_0 : cX2_findLeads.data.toList.drop 0 = dktX2_findLeads_0 := by decide +kernel
theorem dksX2_findLeads_1 : cX2_findLeads.data.toList.drop 24 = dktX2_findLeads_1 := dk_seg dksX2_findLeads_0 24 rfl rfl
theorem dksX2_findLeads_2 : cX2_findLeads.data.toList.drop 47 = dktX2_findLeads_2 := dk_seg dksX2_findLeads_1 23 rfl rfl
theorem dksX2_findLeads_3 : cX2_findLeads.data.toList.drop 70 = dktX2_findLeads_3 := dk_seg dksX2_findLeads_2 23 rfl rfl
theorem dksX2_findLeads_4 : cX2_findLeads.data.toList.drop 94 = dktX2_findLeads_4 := dk_seg dksX2_findLeads_3 24 rfl rfl
theorem dksX2_findLeads_5 : cX2_findLeads.data.toList.drop 116 = dktX2_findLeads_5 := dk_seg dksX2_findLeads_4 22 rfl rfl
theorem dX2_findLeads_0 : decode cX2_findLeads 0 = .ok (.iconst 0, 1) := dk_3 (dk_at dksX2_findLeads_0 0 rfl rfl)
theorem dX2_findLeads_1 : decode cX2_findLeads 1 = .ok (.istore_n 1, 1) := dk_60 (dk_at dksX2_findLeads_0 1 rfl rfl)
theorem dX2_findLeads_2 : decode cX2_findLeads 2 = .ok (.iload_n 1, 1) := dk_27 (dk_at dksX2_findLeads_0 2 rfl rfl)
theorem dX2_findLeads_3 : decode cX2_findLeads 3 = .ok (.aload_n 0, 1) := dk_42 (dk_at dksX2_findLeads_0 3 rfl rfl)
theorem dX2_findLeads_4 : decode cX2_findLeads 4 = .ok (.getfield 418, 3) := dk_180 1 162 (dk_at dksX2_findLeads_0 4 rfl rfl)
theorem dX2_findLeads_7 : decode cX2_findLeads 7 = .ok (.if_icmp .ge 130, 3) := dk_162 0 130 (dk_at dksX2_findLeads_0 7 rfl rfl)
theorem dX2_findLeads_10 : decode cX2_findLeads 10 = .ok (.iconst 0, 1) := dk_3 (dk_at dksX2_findLeads_0 10 rfl rfl)
theorem dX2_findLeads_11 : decode cX2_findLeads 11 = .ok (.istore_n 2, 1) := dk_61 (dk_at dksX2_findLeads_0 11 rfl rfl)
theorem dX2_findLeads_12 : decode cX2_findLeads 12 = .ok (.iload_n 2, 1) := dk_28 (dk_at dksX2_findLeads_0 12 rfl rfl)
theorem dX2_findLeads_13 : decode cX2_findLeads 13 = .ok (.iconst 2, 1) := dk_5 (dk_at dksX2_findLeads_0 13 rfl rfl)
theorem dX2_findLeads_14 : decode cX2_findLeads 14 = .ok (.if_icmp .ge 59, 3) := dk_162 0 59 (dk_at dksX2_findLeads_0 14 rfl rfl)
theorem dX2_findLeads_17 : decode cX2_findLeads 17 = .ok (.aload_n 0, 1) := dk_42 (dk_at dksX2_findLeads_0 17 rfl rfl)
theorem dX2_findLeads_18 : decode cX2_findLeads 18 = .ok (.iload_n 1, 1) := dk_27 (dk_at dksX2_findLeads_0 18 rfl rfl)
theorem dX2_findLeads_19 : decode cX2_findLeads 19 = .ok (.invokevirtual 424, 3) := dk_182 1 168 (dk_at dksX2_findLeads_0 19 rfl rfl)
theorem dX2_findLeads_22 : decode cX2_findLeads 22 = .ok (.iload_n 2, 1) := dk_28 (dk_at dksX2_findLeads_0 22 rfl rfl)
theorem dX2_findLeads_23 : decode cX2_findLeads 23 = .ok (.istore_n 3, 1) := dk_62 (dk_at dksX2_findLeads_0 23 rfl rfl)
theorem dX2_findLeads_24 : decode cX2_findLeads 24 = .ok (.iload_n 3, 1) := dk_29 (dk_at dksX2_findLeads_1 0 rfl rfl)
theorem dX2_findLeads_25 : decode cX2_findLeads 25 = .ok (.iconst 1, 1) := dk_4 (dk_at dksX2_findLeads_1 1 rfl rfl)
theorem dX2_findLeads_26 : decode cX2_findLeads 26 = .ok (.iadd, 1) := dk_96 (dk_at dksX2_findLeads_1 2 rfl rfl)
theorem dX2_findLeads_27 : decode cX2_findLeads 27 = .ok (.aload_n 0, 1) := dk_42 (dk_at dksX2_findLeads_1 3 rfl rfl)
theorem dX2_findLeads_28 : decode cX2_findLeads 28 = .ok (.getfield 412, 3) := dk_180 1 156 (dk_at dksX2_findLeads_1 4 rfl rfl)
theorem dX2_findLeads_31 : decode cX2_findLeads 31 = .ok (.if_icmp .ge 22, 3) := dk_162 0 22 (dk_at dksX2_findLeads_1 7 rfl rfl)
theorem dX2_findLeads_34 : decode cX2_findLeads 34 = .ok (.aload_n 0, 1) := dk_42 (dk_at dksX2_findLeads_1 10 rfl rfl)
theorem dX2_findLeads_35 : decode cX2_findLeads 35 = .ok (.iload_n 3, 1) := dk_29 (dk_at dksX2_findLeads_1 11 rfl rfl)
theorem dX2_findLeads_36 : decode cX2_findLeads 36 = .ok (.invokevirtual 427, 3) := dk_182 1 171 (dk_at dksX2_findLeads_1 12 rfl rfl)
theorem dX2_findLeads_39 : decode cX2_findLeads 39 = .ok (.ifCond .eq 8, 3) := dk_153 0 8 (dk_at dksX2_findLeads_1 15 rfl rfl)
theorem dX2_findLeads_42 : decode cX2_findLeads 42 = .ok (.aload_n 0, 1) := dk_42 (dk_at dksX2_findLeads_1 18 rfl rfl)
theorem dX2_findLeads_43 : decode cX2_findLeads 43 = .ok (.iload_n 3, 1) := dk_29 (dk_at dksX2_findLeads_1 19 rfl rfl)
theorem dX2_findLeads_44 : decode cX2_findLeads 44 = .ok (.invokevirtual 430, 3) := dk_182 1 174 (dk_at dksX2_findLeads_1 20 rfl rfl)
theorem dX2_findLeads_47 : decode cX2_findLeads 47 = .ok (.iinc 3 2, 3) := dk_132 3 2 (dk_at dksX2_findLeads_2 0 rfl rfl)
theorem dX2_findLeads_50 : decode cX2_findLeads 50 = .ok (.goto (-26), 3) := dk_167 255 230 (dk_at dksX2_findLeads_2 3 rfl rfl)
theorem dX2_findLeads_53 : decode cX2_findLeads 53 = .ok (.aload_n 0, 1) := dk_42 (dk_at dksX2_findLeads_2 6 rfl rfl)
theorem dX2_findLeads_54 : decode cX2_findLeads 54 = .ok (.getfield 55, 3) := dk_180 0 55 (dk_at dksX2_findLeads_2 7 rfl rfl)
theorem dX2_findLeads_57 : decode cX2_findLeads 57 = .ok (.iconst 2, 1) := dk_5 (dk_at dksX2_findLeads_2 10 rfl rfl)
theorem dX2_findLeads_58 : decode cX2_findLeads 58 = .ok (.iload_n 1, 1) := dk_27 (dk_at dksX2_findLeads_2 11 rfl rfl)
theorem dX2_findLeads_59 : decode cX2_findLeads 59 = .ok (.imul, 1) := dk_104 (dk_at dksX2_findLeads_2 12 rfl rfl)
theorem dX2_findLeads_60 : decode cX2_findLeads 60 = .ok (.iload_n 2, 1) := dk_28 (dk_at dksX2_findLeads_2 13 rfl rfl)
theorem dX2_findLeads_61 : decode cX2_findLeads 61 = .ok (.iadd, 1) := dk_96 (dk_at dksX2_findLeads_2 14 rfl rfl)
theorem dX2_findLeads_62 : decode cX2_findLeads 62 = .ok (.aload_n 0, 1) := dk_42 (dk_at dksX2_findLeads_2 15 rfl rfl)
theorem dX2_findLeads_63 : decode cX2_findLeads 63 = .ok (.invokevirtual 433, 3) := dk_182 1 177 (dk_at dksX2_findLeads_2 16 rfl rfl)
theorem dX2_findLeads_66 : decode cX2_findLeads 66 = .ok (.iastore, 1) := dk_79 (dk_at dksX2_findLeads_2 19 rfl rfl)
theorem dX2_findLeads_67 : decode cX2_findLeads 67 = .ok (.iinc 2 1, 3) := dk_132 2 1 (dk_at dksX2_findLeads_2 20 rfl rfl)
theorem dX2_findLeads_70 : decode cX2_findLeads 70 = .ok (.goto (-58), 3) := dk_167 255 198 (dk_at dksX2_findLeads_3 0 rfl rfl)
theorem dX2_findLeads_73 : decode cX2_findLeads 73 = .ok (.aload_n 0, 1) := dk_42 (dk_at dksX2_findLeads_3 3 rfl rfl)
theorem dX2_findLeads_74 : decode cX2_findLeads 74 = .ok (.iload_n 1, 1) := dk_27 (dk_at dksX2_findLeads_3 4 rfl rfl)
theorem dX2_findLeads_75 : decode cX2_findLeads 75 = .ok (.invokevirtual 424, 3) := dk_182 1 168 (dk_at dksX2_findLeads_3 5 rfl rfl)
theorem dX2_findLeads_78 : decode cX2_findLeads 78 = .ok (.aload_n 0, 1) := dk_42 (dk_at dksX2_findLeads_3 8 rfl rfl)
theorem dX2_findLeads_79 : decode cX2_findLeads 79 = .ok (.getfield 58, 3) := dk_180 0 58 (dk_at dksX2_findLeads_3 9 rfl rfl)
theorem dX2_findLeads_82 : decode cX2_findLeads 82 = .ok (.iload_n 1, 1) := dk_27 (dk_at dksX2_findLeads_3 12 rfl rfl)
theorem dX2_findLeads_83 : decode cX2_findLeads 83 = .ok (.iconst 1, 1) := dk_4 (dk_at dksX2_findLeads_3 13 rfl rfl)
theorem dX2_findLeads_84 : decode cX2_findLeads 84 = .ok (.bastore, 1) := dk_84 (dk_at dksX2_findLeads_3 14 rfl rfl)
theorem dX2_findLeads_85 : decode cX2_findLeads 85 = .ok (.iconst 0, 1) := dk_3 (dk_at dksX2_findLeads_3 15 rfl rfl)
theorem dX2_findLeads_86 : decode cX2_findLeads 86 = .ok (.istore_n 2, 1) := dk_61 (dk_at dksX2_findLeads_3 16 rfl rfl)
theorem dX2_findLeads_87 : decode cX2_findLeads 87 = .ok (.iload_n 2, 1) := dk_28 (dk_at dksX2_findLeads_3 17 rfl rfl)
theorem dX2_findLeads_88 : decode cX2_findLeads 88 = .ok (.iconst 1, 1) := dk_4 (dk_at dksX2_findLeads_3 18 rfl rfl)
theorem dX2_findLeads_89 : decode cX2_findLeads 89 = .ok (.iadd, 1) := dk_96 (dk_at dksX2_findLeads_3 19 rfl rfl)
theorem dX2_findLeads_90 : decode cX2_findLeads 90 = .ok (.aload_n 0, 1) := dk_42 (dk_at dksX2_findLeads_3 20 rfl rfl)
theorem dX2_findLeads_91 : decode cX2_findLeads 91 = .ok (.getfield 412, 3) := dk_180 1 156 (dk_at dksX2_findLeads_3 21 rfl rfl)
theorem dX2_findLeads_94 : decode cX2_findLeads 94 = .ok (.if_icmp .ge 37, 3) := dk_162 0 37 (dk_at dksX2_findLeads_4 0 rfl rfl)
theorem dX2_findLeads_97 : decode cX2_findLeads 97 = .ok (.aload_n 0, 1) := dk_42 (dk_at dksX2_findLeads_4 3 rfl rfl)
theorem dX2_findLeads_98 : decode cX2_findLeads 98 = .ok (.getfield 58, 3) := dk_180 0 58 (dk_at dksX2_findLeads_4 4 rfl rfl)
theorem dX2_findLeads_101 : decode cX2_findLeads 101 = .ok (.iload_n 1, 1) := dk_27 (dk_at dksX2_findLeads_4 7 rfl rfl)
theorem dX2_findLeads_102 : decode cX2_findLeads 102 = .ok (.aload_n 0, 1) := dk_42 (dk_at dksX2_findLeads_4 8 rfl rfl)
theorem dX2_findLeads_103 : decode cX2_findLeads 103 = .ok (.getfield 58, 3) := dk_180 0 58 (dk_at dksX2_findLeads_4 9 rfl rfl)
theorem dX2_findLeads_106 : decode cX2_findLeads 106 = .ok (.iload_n 1, 1) := dk_27 (dk_at dksX2_findLeads_4 12 rfl rfl)
theorem dX2_findLeads_107 : decode cX2_findLeads 107 = .ok (.baload, 1) := dk_51 (dk_at dksX2_findLeads_4 13 rfl rfl)
theorem dX2_findLeads_108 : decode cX2_findLeads 108 = .ok (.ifCond .eq 15, 3) := dk_153 0 15 (dk_at dksX2_findLeads_4 14 rfl rfl)
theorem dX2_findLeads_111 : decode cX2_findLeads 111 = .ok (.aload_n 0, 1) := dk_42 (dk_at dksX2_findLeads_4 17 rfl rfl)
theorem dX2_findLeads_112 : decode cX2_findLeads 112 = .ok (.iload_n 2, 1) := dk_28 (dk_at dksX2_findLeads_4 18 rfl rfl)
theorem dX2_findLeads_113 : decode cX2_findLeads 113 = .ok (.invokevirtual 427, 3) := dk_182 1 171 (dk_at dksX2_findLeads_4 19 rfl rfl)
theorem dX2_findLeads_116 : decode cX2_findLeads 116 = .ok (.ifCond .ne 7, 3) := dk_154 0 7 (dk_at dksX2_findLeads_5 0 rfl rfl)
theorem dX2_findLeads_119 : decode cX2_findLeads 119 = .ok (.iconst 1, 1) := dk_4 (dk_at dksX2_findLeads_5 3 rfl rfl)
theorem dX2_findLeads_120 : decode cX2_findLeads 120 = .ok (.goto 4, 3) := dk_167 0 4 (dk_at dksX2_findLeads_5 4 rfl rfl)
theorem dX2_findLeads_123 : decode cX2_findLeads 123 = .ok (.iconst 0, 1) := dk_3 (dk_at dksX2_findLeads_5 7 rfl rfl)
theorem dX2_findLeads_124 : decode cX2_findLeads 124 = .ok (.bastore, 1) := dk_84 (dk_at dksX2_findLeads_5 8 rfl rfl)
theorem dX2_findLeads_125 : decode cX2_findLeads 125 = .ok (.iinc 2 1, 3) := dk_132 2 1 (dk_at dksX2_findLeads_5 9 rfl rfl)
theorem dX2_findLeads_128 : decode cX2_findLeads 128 = .ok (.goto (-41), 3) := dk_167 255 215 (dk_at dksX2_findLeads_5 12 rfl rfl)
theorem dX2_findLeads_131 : decode cX2_findLeads 131 = .ok (.iinc 1 1, 3) := dk_132 1 1 (dk_at dksX2_findLeads_5 15 rfl rfl)
theorem dX2_findLeads_134 : decode cX2_findLeads 134 = .ok (.goto (-132), 3) := dk_167 255 124 (dk_at dksX2_findLeads_5 18 rfl rfl)
theorem dX2_findLeads_137 : decode cX2_findLeads 137 = .ok (.return_, 1) := dk_177 (dk_at dksX2_findLeads_5 21 rfl rfl)
abbrev MX2_findLeads : jjM := (yX2_findLeads, cX2_findLeads, 4, (Option.none : Option Jvm.ClassFile.FieldType))
theorem npX2_findLeads : yX2_findLeads.cls ≠ "java/lang/invoke/MethodHandle" ∧ yX2_findLeads.cls ≠ "java/lang/invoke/VarHandle" ∧ (parseMethodDescriptor yX2_findLeads.desc).map (fun d => d.parameters.length) = some 0 := by decide +kernel
abbrev cX2_takeOrder : ByteArray := prog_17_method_105_code
def yX2_takeOrder : MethodName := ⟨RX2, "takeOrder", "(I)V"⟩
def dkwX2_takeOrder_1 : List UInt8 := [96, 46, 79, 132, 2, 1, 167, 255, 228, 177]
abbrev dktX2_takeOrder_1 : List UInt8 := dkwX2_takeOrder_1 ++ []
def dkwX2_takeOrder_0 : List UInt8 := [3, 61, 28, 42, 180, 1, 156, 162, 0, 26, 42, 180, 0, 64, 28, 42, 180, 0, 52, 16, 6, 27, 104, 28]
abbrev dktX2_takeOrder_0 : List UInt8 := dkwX2_takeOrder_0 ++ dktX2_takeOrder_1
theorem dksX2_takeOrder_0 : cX2_takeOrder.data.toList.drop 0 = dktX2_takeOrder_0 := by decide +kernel
theorem dksX2_takeOrder_1 : cX2_takeOrder.data.toList.drop 24 = dktX2_takeOrder_1 := dk_seg dksX2_takeOrder_0 24 rfl rfl
theorem dX2_takeOrder_0 : decode cX2_takeOrder 0 = .ok (.iconst 0, 1) := dk_3 (dk_at dksX2_takeOrder_0 0 rfl rfl)
theorem dX2_takeOrder_1 : decode cX2_takeOrder 1 = .ok (.istore_n 2, 1) := dk_61 (dk_at dksX2_takeOrder_0 1 rfl rfl)
theorem dX2_takeOrder_2 : decode cX2_takeOrder 2 = .ok (.iload_n 2, 1) := dk_28 (dk_at dksX2_takeOrder_0 2 rfl rfl)
theorem dX2_takeOrder_3 : decode cX2_takeOrder 3 = .ok (.aload_n 0, 1) := dk_42 (dk_at dksX2_takeOrder_0 3 rfl rfl)
theorem dX2_takeOrder_4 : decode cX2_takeOrder 4 = .ok (.getfield 412, 3) := dk_180 1 156 (dk_at dksX2_takeOrder_0 4 rfl rfl)
theorem dX2_takeOrder_7 : decode cX2_takeOrder 7 = .ok (.if_icmp .ge 26, 3) := dk_162 0 26 (dk_at dksX2_takeOrder_0 7 rfl rfl)
theorem dX2_takeOrder_10 : decode cX2_takeOrder 10 = .ok (.aload_n 0, 1) := dk_42 (dk_at dksX2_takeOrder_0 10 rfl rfl)
theorem dX2_takeOrder_11 : decode cX2_takeOrder 11 = .ok (.getfield 64, 3) := dk_180 0 64 (dk_at dksX2_takeOrder_0 11 rfl rfl)
theorem dX2_takeOrder_14 : decode cX2_takeOrder 14 = .ok (.iload_n 2, 1) := dk_28 (dk_at dksX2_takeOrder_0 14 rfl rfl)
theorem dX2_takeOrder_15 : decode cX2_takeOrder 15 = .ok (.aload_n 0, 1) := dk_42 (dk_at dksX2_takeOrder_0 15 rfl rfl)
theorem dX2_takeOrder_16 : decode cX2_takeOrder 16 = .ok (.getfield 52, 3) := dk_180 0 52 (dk_at dksX2_takeOrder_0 16 rfl rfl)
theorem dX2_takeOrder_19 : decode cX2_takeOrder 19 = .ok (.bipush 6, 2) := dk_16 6 (dk_at dksX2_takeOrder_0 19 rfl rfl)
theorem dX2_takeOrder_21 : decode cX2_takeOrder 21 = .ok (.iload_n 1, 1) := dk_27 (dk_at dksX2_takeOrder_0 21 rfl rfl)
theorem dX2_takeOrder_22 : decode cX2_takeOrder 22 = .ok (.imul, 1) := dk_104 (dk_at dksX2_takeOrder_0 22 rfl rfl)
theorem dX2_takeOrder_23 : decode cX2_takeOrder 23 = .ok (.iload_n 2, 1) := dk_28 (dk_at dksX2_takeOrder_0 23 rfl rfl)
theorem dX2_takeOrder_24 : decode cX2_takeOrder 24 = .ok (.iadd, 1) := dk_96 (dk_at dksX2_takeOrder_1 0 rfl rfl)
theorem dX2_takeOrder_25 : decode cX2_takeOrder 25 = .ok (.iaload, 1) := dk_46 (dk_at dksX2_takeOrder_1 1 rfl rfl)
theorem dX2_takeOrder_26 : decode cX2_takeOrder 26 = .ok (.iastore, 1) := dk_79 (dk_at dksX2_takeOrder_1 2 rfl rfl)
theorem dX2_takeOrder_27 : decode cX2_takeOrder 27 = .ok (.iinc 2 1, 3) := dk_132 2 1 (dk_at dksX2_takeOrder_1 3 rfl rfl)
theorem dX2_takeOrder_30 : decode cX2_takeOrder 30 = .ok (.goto (-28), 3) := dk_167 255 228 (dk_at dksX2_takeOrder_1 6 rfl rfl)
theorem dX2_takeOrder_33 : decode cX2_takeOrder 33 = .ok (.return_, 1) := dk_177 (dk_at dksX2_takeOrder_1 9 rfl rfl)
abbrev MX2_takeOrder : jjM := (yX2_takeOrder, cX2_takeOrder, 3, (Option.none : Option Jvm.ClassFile.FieldType))
theorem npX2_takeOrder : yX2_takeOrder.cls ≠ "java/lang/invoke/MethodHandle" ∧ yX2_takeOrder.cls ≠ "java/lang/invoke/VarHandle" ∧ (parseMethodDescriptor yX2_takeOrder.desc).map (fun d => d.parameters.length) = some 1 := by decide +kernel
abbrev cX2_doOrder : ByteArray := prog_17_method_107_code
def yX2_doOrder : MethodName := ⟨RX2, "doOrder", "(I)Z"⟩
def dkwX2_doOrder_1 : List UInt8 := [180, 0, 64, 27, 4, 96, 46, 46, 96, 51, 172]
abbrev dktX2_doOrder_1 : List UInt8 := dkwX2_doOrder_1 ++ []
def dkwX2_doOrder_0 : List UInt8 := [42, 180, 0, 43, 16, 10, 42, 180, 0, 61, 42, 180, 0, 64, 27, 46, 46, 104, 42, 180, 0, 61, 42]
abbrev dktX2_doOrder_0 : List UInt8 := dkwX2_doOrder_0 ++ dktX2_doOrder_1
theorem dksX2_doOrder_0 : cX2_doOrder.data.toList.drop 0 = dktX2_doOrder_0 := by decide +kernel
theorem dksX2_doOrder_1 : cX2_doOrder.data.toList.drop 23 = dktX2_doOrder_1 := dk_seg dksX2_doOrder_0 23 rfl rfl
theorem dX2_doOrder_0 : decode cX2_doOrder 0 = .ok (.aload_n 0, 1) := dk_42 (dk_at dksX2_doOrder_0 0 rfl rfl)
theorem dX2_doOrder_1 : decode cX2_doOrder 1 = .ok (.getfield 43, 3) := dk_180 0 43 (dk_at dksX2_doOrder_0 1 rfl rfl)
theorem dX2_doOrder_4 : decode cX2_doOrder 4 = .ok (.bipush 10, 2) := dk_16 10 (dk_at dksX2_doOrder_0 4 rfl rfl)
theorem dX2_doOrder_6 : decode cX2_doOrder 6 = .ok (.aload_n 0, 1) := dk_42 (dk_at dksX2_doOrder_0 6 rfl rfl)
theorem dX2_doOrder_7 : decode cX2_doOrder 7 = .ok (.getfield 61, 3) := dk_180 0 61 (dk_at dksX2_doOrder_0 7 rfl rfl)
theorem dX2_doOrder_10 : decode cX2_doOrder 10 = .ok (.aload_n 0, 1) := dk_42 (dk_at dksX2_doOrder_0 10 rfl rfl)
theorem dX2_doOrder_11 : decode cX2_doOrder 11 = .ok (.getfield 64, 3) := dk_180 0 64 (dk_at dksX2_doOrder_0 11 rfl rfl)
theorem dX2_doOrder_14 : decode cX2_doOrder 14 = .ok (.iload_n 1, 1) := dk_27 (dk_at dksX2_doOrder_0 14 rfl rfl)
theorem dX2_doOrder_15 : decode cX2_doOrder 15 = .ok (.iaload, 1) := dk_46 (dk_at dksX2_doOrder_0 15 rfl rfl)
theorem dX2_doOrder_16 : decode cX2_doOrder 16 = .ok (.iaload, 1) := dk_46 (dk_at dksX2_doOrder_0 16 rfl rfl)
theorem dX2_doOrder_17 : decode cX2_doOrder 17 = .ok (.imul, 1) := dk_104 (dk_at dksX2_doOrder_0 17 rfl rfl)
theorem dX2_doOrder_18 : decode cX2_doOrder 18 = .ok (.aload_n 0, 1) := dk_42 (dk_at dksX2_doOrder_0 18 rfl rfl)
theorem dX2_doOrder_19 : decode cX2_doOrder 19 = .ok (.getfield 61, 3) := dk_180 0 61 (dk_at dksX2_doOrder_0 19 rfl rfl)
theorem dX2_doOrder_22 : decode cX2_doOrder 22 = .ok (.aload_n 0, 1) := dk_42 (dk_at dksX2_doOrder_0 22 rfl rfl)
theorem dX2_doOrder_23 : decode cX2_doOrder 23 = .ok (.getfield 64, 3) := dk_180 0 64 (dk_at dksX2_doOrder_1 0 rfl rfl)
theorem dX2_doOrder_26 : decode cX2_doOrder 26 = .ok (.iload_n 1, 1) := dk_27 (dk_at dksX2_doOrder_1 3 rfl rfl)
theorem dX2_doOrder_27 : decode cX2_doOrder 27 = .ok (.iconst 1, 1) := dk_4 (dk_at dksX2_doOrder_1 4 rfl rfl)
theorem dX2_doOrder_28 : decode cX2_doOrder 28 = .ok (.iadd, 1) := dk_96 (dk_at dksX2_doOrder_1 5 rfl rfl)
theorem dX2_doOrder_29 : decode cX2_doOrder 29 = .ok (.iaload, 1) := dk_46 (dk_at dksX2_doOrder_1 6 rfl rfl)
theorem dX2_doOrder_30 : decode cX2_doOrder 30 = .ok (.iaload, 1) := dk_46 (dk_at dksX2_doOrder_1 7 rfl rfl)
theorem dX2_doOrder_31 : decode cX2_doOrder 31 = .ok (.iadd, 1) := dk_96 (dk_at dksX2_doOrder_1 8 rfl rfl)
theorem dX2_doOrder_32 : decode cX2_doOrder 32 = .ok (.baload, 1) := dk_51 (dk_at dksX2_doOrder_1 9 rfl rfl)
theorem dX2_doOrder_33 : decode cX2_doOrder 33 = .ok (.ireturn, 1) := dk_172 (dk_at dksX2_doOrder_1 10 rfl rfl)
abbrev MX2_doOrder : jjM := (yX2_doOrder, cX2_doOrder, 2, (Option.some Jvm.ClassFile.FieldType.boolean))
theorem npX2_doOrder : yX2_doOrder.cls ≠ "java/lang/invoke/MethodHandle" ∧ yX2_doOrder.cls ≠ "java/lang/invoke/VarHandle" ∧ (parseMethodDescriptor yX2_doOrder.desc).map (fun d => d.parameters.length) = some 1 := by decide +kernel
abbrev cX2_changeOrder : ByteArray := prog_17_method_106_code
def yX2_changeOrder : MethodName := ⟨RX2, "changeOrder", "(I)V"⟩
def dkwX2_changeOrder_1 : List UInt8 := [180, 0, 64, 27, 4, 96, 28, 79, 177]
abbrev dktX2_changeOrder_1 : List UInt8 := dkwX2_changeOrder_1 ++ []
def dkwX2_changeOrder_0 : List UInt8 := [42, 180, 0, 64, 27, 46, 61, 42, 180, 0, 64, 27, 42, 180, 0, 64, 27, 4, 96, 46, 79, 42]
abbrev dktX2_changeOrder_0 : List UInt8 := dkwX2_changeOrder_0 ++ dktX2_changeOrder_1
theorem dksX2_changeOrder_0 : cX2_changeOrder.data.toList.drop 0 = dktX2_changeOrder_0 := by decide +kernel
theorem dksX2_changeOrder_1 : cX2_changeOrder.data.toList.drop 22 = dktX2_changeOrder_1 := dk_seg dksX2_changeOrder_0 22 rfl rfl
theorem dX2_changeOrder_0 : decode cX2_changeOrder 0 = .ok (.aload_n 0, 1) := dk_42 (dk_at dksX2_changeOrder_0 0 rfl rfl)
theorem dX2_changeOrder_1 : decode cX2_changeOrder 1 = .ok (.getfield 64, 3) := dk_180 0 64 (dk_at dksX2_changeOrder_0 1 rfl rfl)
theorem dX2_changeOrder_4 : decode cX2_changeOrder 4 = .ok (.iload_n 1, 1) := dk_27 (dk_at dksX2_changeOrder_0 4 rfl rfl)
theorem dX2_changeOrder_5 : decode cX2_changeOrder 5 = .ok (.iaload, 1) := dk_46 (dk_at dksX2_changeOrder_0 5 rfl rfl)
theorem dX2_changeOrder_6 : decode cX2_changeOrder 6 = .ok (.istore_n 2, 1) := dk_61 (dk_at dksX2_changeOrder_0 6 rfl rfl)
theorem dX2_changeOrder_7 : decode cX2_changeOrder 7 = .ok (.aload_n 0, 1) := dk_42 (dk_at dksX2_changeOrder_0 7 rfl rfl)
theorem dX2_changeOrder_8 : decode cX2_changeOrder 8 = .ok (.getfield 64, 3) := dk_180 0 64 (dk_at dksX2_changeOrder_0 8 rfl rfl)
theorem dX2_changeOrder_11 : decode cX2_changeOrder 11 = .ok (.iload_n 1, 1) := dk_27 (dk_at dksX2_changeOrder_0 11 rfl rfl)
theorem dX2_changeOrder_12 : decode cX2_changeOrder 12 = .ok (.aload_n 0, 1) := dk_42 (dk_at dksX2_changeOrder_0 12 rfl rfl)
theorem dX2_changeOrder_13 : decode cX2_changeOrder 13 = .ok (.getfield 64, 3) := dk_180 0 64 (dk_at dksX2_changeOrder_0 13 rfl rfl)
theorem dX2_changeOrder_16 : decode cX2_changeOrder 16 = .ok (.iload_n 1, 1) := dk_27 (dk_at dksX2_changeOrder_0 16 rfl rfl)
theorem dX2_changeOrder_17 : decode cX2_changeOrder 17 = .ok (.iconst 1, 1) := dk_4 (dk_at dksX2_changeOrder_0 17 rfl rfl)
theorem dX2_changeOrder_18 : decode cX2_changeOrder 18 = .ok (.iadd, 1) := dk_96 (dk_at dksX2_changeOrder_0 18 rfl rfl)
theorem dX2_changeOrder_19 : decode cX2_changeOrder 19 = .ok (.iaload, 1) := dk_46 (dk_at dksX2_changeOrder_0 19 rfl rfl)
theorem dX2_changeOrder_20 : decode cX2_changeOrder 20 = .ok (.iastore, 1) := dk_79 (dk_at dksX2_changeOrder_0 20 rfl rfl)
theorem dX2_changeOrder_21 : decode cX2_changeOrder 21 = .ok (.aload_n 0, 1) := dk_42 (dk_at dksX2_changeOrder_0 21 rfl rfl)
theorem dX2_changeOrder_22 : decode cX2_changeOrder 22 = .ok (.getfield 64, 3) := dk_180 0 64 (dk_at dksX2_changeOrder_1 0 rfl rfl)
theorem dX2_changeOrder_25 : decode cX2_changeOrder 25 = .ok (.iload_n 1, 1) := dk_27 (dk_at dksX2_changeOrder_1 3 rfl rfl)
theorem dX2_changeOrder_26 : decode cX2_changeOrder 26 = .ok (.iconst 1, 1) := dk_4 (dk_at dksX2_changeOrder_1 4 rfl rfl)
theorem dX2_changeOrder_27 : decode cX2_changeOrder 27 = .ok (.iadd, 1) := dk_96 (dk_at dksX2_changeOrder_1 5 rfl rfl)
theorem dX2_changeOrder_28 : decode cX2_changeOrder 28 = .ok (.iload_n 2, 1) := dk_28 (dk_at dksX2_changeOrder_1 6 rfl rfl)
theorem dX2_changeOrder_29 : decode cX2_changeOrder 29 = .ok (.iastore, 1) := dk_79 (dk_at dksX2_changeOrder_1 7 rfl rfl)
theorem dX2_changeOrder_30 : decode cX2_changeOrder 30 = .ok (.return_, 1) := dk_177 (dk_at dksX2_changeOrder_1 8 rfl rfl)
abbrev MX2_changeOrder : jjM := (yX2_changeOrder, cX2_changeOrder, 3, (Option.none : Option Jvm.ClassFile.FieldType))
theorem npX2_changeOrder : yX2_changeOrder.cls ≠ "java/lang/invoke/MethodHandle" ∧ yX2_changeOrder.cls ≠ "java/lang/invoke/VarHandle" ∧ (parseMethodDescriptor yX2_changeOrder.desc).map (fun d => d.parameters.length) = some 1 := by decide +kernel
abbrev cX2_orderOf : ByteArray := prog_17_method_104_code
def yX2_orderOf : MethodName := ⟨RX2, "orderOf", "()I"⟩
def dkwX2_orderOf_3 : List UInt8 := [132, 2, 1, 167, 255, 188, 27, 172]
abbrev dktX2_orderOf_3 : List UInt8 := dkwX2_orderOf_3 ++ []
def dkwX2_orderOf_2 : List UInt8 := [167, 0, 4, 3, 96, 62, 132, 4, 1, 167, 255, 220, 27, 42, 180, 1, 156, 28, 100, 104, 29, 96, 60]
abbrev dktX2_orderOf_2 : List UInt8 := dkwX2_orderOf_2 ++ dktX2_orderOf_3
def dkwX2_orderOf_1 : List UInt8 := [180, 1, 156, 162, 0, 33, 29, 42, 180, 0, 64, 21, 4, 46, 42, 180, 0, 64, 28, 46, 162, 0, 7, 4]
abbrev dktX2_orderOf_1 : List UInt8 := dkwX2_orderOf_1 ++ dktX2_orderOf_2
def dkwX2_orderOf_0 : List UInt8 := [3, 60, 3, 61, 28, 42, 180, 1, 156, 162, 0, 66, 3, 62, 28, 4, 96, 54, 4, 21, 4, 42]
abbrev dktX2_orderOf_0 : List UInt8 := dkwX2_orderOf_0 ++ dktX2_orderOf_1
theorem dksX2_orderOf_0 : cX2_orderOf.data.toList.drop 0 = dktX2_orderOf_0 := by decide +kernel
theorem dksX2_orderOf_1 : cX2_orderOf.data.toList.drop 22 = dktX2_orderOf_1 := dk_seg dksX2_orderOf_0 22 rfl rfl
theorem dksX2_orderOf_2 : cX2_orderOf.data.toList.drop 46 = dktX2_orderOf_2 := dk_seg dksX2_orderOf_1 24 rfl rfl
theorem dksX2_orderOf_3 : cX2_orderOf.data.toList.drop 69 = dktX2_orderOf_3 := dk_seg dksX2_orderOf_2 23 rfl rfl
theorem dX2_orderOf_0 : decode cX2_orderOf 0 = .ok (.iconst 0, 1) := dk_3 (dk_at dksX2_orderOf_0 0 rfl rfl)
theorem dX2_orderOf_1 : decode cX2_orderOf 1 = .ok (.istore_n 1, 1) := dk_60 (dk_at dksX2_orderOf_0 1 rfl rfl)
theorem dX2_orderOf_2 : decode cX2_orderOf 2 = .ok (.iconst 0, 1) := dk_3 (dk_at dksX2_orderOf_0 2 rfl rfl)
theorem dX2_orderOf_3 : decode cX2_orderOf 3 = .ok (.istore_n 2, 1) := dk_61 (dk_at dksX2_orderOf_0 3 rfl rfl)
theorem dX2_orderOf_4 : decode cX2_orderOf 4 = .ok (.iload_n 2, 1) := dk_28 (dk_at dksX2_orderOf_0 4 rfl rfl)
theorem dX2_orderOf_5 : decode cX2_orderOf 5 = .ok (.aload_n 0, 1) := dk_42 (dk_at dksX2_orderOf_0 5 rfl rfl)
theorem dX2_orderOf_6 : decode cX2_orderOf 6 = .ok (.getfield 412, 3) := dk_180 1 156 (dk_at dksX2_orderOf_0 6 rfl rfl)
theorem dX2_orderOf_9 : decode cX2_orderOf 9 = .ok (.if_icmp .ge 66, 3) := dk_162 0 66 (dk_at dksX2_orderOf_0 9 rfl rfl)
theorem dX2_orderOf_12 : decode cX2_orderOf 12 = .ok (.iconst 0, 1) := dk_3 (dk_at dksX2_orderOf_0 12 rfl rfl)
theorem dX2_orderOf_13 : decode cX2_orderOf 13 = .ok (.istore_n 3, 1) := dk_62 (dk_at dksX2_orderOf_0 13 rfl rfl)
theorem dX2_orderOf_14 : decode cX2_orderOf 14 = .ok (.iload_n 2, 1) := dk_28 (dk_at dksX2_orderOf_0 14 rfl rfl)
theorem dX2_orderOf_15 : decode cX2_orderOf 15 = .ok (.iconst 1, 1) := dk_4 (dk_at dksX2_orderOf_0 15 rfl rfl)
theorem dX2_orderOf_16 : decode cX2_orderOf 16 = .ok (.iadd, 1) := dk_96 (dk_at dksX2_orderOf_0 16 rfl rfl)
theorem dX2_orderOf_17 : decode cX2_orderOf 17 = .ok (.istore 4, 2) := dk_54 4 (dk_at dksX2_orderOf_0 17 rfl rfl)
theorem dX2_orderOf_19 : decode cX2_orderOf 19 = .ok (.iload 4, 2) := dk_21 4 (dk_at dksX2_orderOf_0 19 rfl rfl)
theorem dX2_orderOf_21 : decode cX2_orderOf 21 = .ok (.aload_n 0, 1) := dk_42 (dk_at dksX2_orderOf_0 21 rfl rfl)
theorem dX2_orderOf_22 : decode cX2_orderOf 22 = .ok (.getfield 412, 3) := dk_180 1 156 (dk_at dksX2_orderOf_1 0 rfl rfl)
theorem dX2_orderOf_25 : decode cX2_orderOf 25 = .ok (.if_icmp .ge 33, 3) := dk_162 0 33 (dk_at dksX2_orderOf_1 3 rfl rfl)
theorem dX2_orderOf_28 : decode cX2_orderOf 28 = .ok (.iload_n 3, 1) := dk_29 (dk_at dksX2_orderOf_1 6 rfl rfl)
theorem dX2_orderOf_29 : decode cX2_orderOf 29 = .ok (.aload_n 0, 1) := dk_42 (dk_at dksX2_orderOf_1 7 rfl rfl)
theorem dX2_orderOf_30 : decode cX2_orderOf 30 = .ok (.getfield 64, 3) := dk_180 0 64 (dk_at dksX2_orderOf_1 8 rfl rfl)
theorem dX2_orderOf_33 : decode cX2_orderOf 33 = .ok (.iload 4, 2) := dk_21 4 (dk_at dksX2_orderOf_1 11 rfl rfl)
theorem dX2_orderOf_35 : decode cX2_orderOf 35 = .ok (.iaload, 1) := dk_46 (dk_at dksX2_orderOf_1 13 rfl rfl)
theorem dX2_orderOf_36 : decode cX2_orderOf 36 = .ok (.aload_n 0, 1) := dk_42 (dk_at dksX2_orderOf_1 14 rfl rfl)
theorem dX2_orderOf_37 : decode cX2_orderOf 37 = .ok (.getfield 64, 3) := dk_180 0 64 (dk_at dksX2_orderOf_1 15 rfl rfl)
theorem dX2_orderOf_40 : decode cX2_orderOf 40 = .ok (.iload_n 2, 1) := dk_28 (dk_at dksX2_orderOf_1 18 rfl rfl)
theorem dX2_orderOf_41 : decode cX2_orderOf 41 = .ok (.iaload, 1) := dk_46 (dk_at dksX2_orderOf_1 19 rfl rfl)
theorem dX2_orderOf_42 : decode cX2_orderOf 42 = .ok (.if_icmp .ge 7, 3) := dk_162 0 7 (dk_at dksX2_orderOf_1 20 rfl rfl)
theorem dX2_orderOf_45 : decode cX2_orderOf 45 = .ok (.iconst 1, 1) := dk_4 (dk_at dksX2_orderOf_1 23 rfl rfl)
theorem dX2_orderOf_46 : decode cX2_orderOf 46 = .ok (.goto 4, 3) := dk_167 0 4 (dk_at dksX2_orderOf_2 0 rfl rfl)
theorem dX2_orderOf_49 : decode cX2_orderOf 49 = .ok (.iconst 0, 1) := dk_3 (dk_at dksX2_orderOf_2 3 rfl rfl)
theorem dX2_orderOf_50 : decode cX2_orderOf 50 = .ok (.iadd, 1) := dk_96 (dk_at dksX2_orderOf_2 4 rfl rfl)
theorem dX2_orderOf_51 : decode cX2_orderOf 51 = .ok (.istore_n 3, 1) := dk_62 (dk_at dksX2_orderOf_2 5 rfl rfl)
theorem dX2_orderOf_52 : decode cX2_orderOf 52 = .ok (.iinc 4 1, 3) := dk_132 4 1 (dk_at dksX2_orderOf_2 6 rfl rfl)
theorem dX2_orderOf_55 : decode cX2_orderOf 55 = .ok (.goto (-36), 3) := dk_167 255 220 (dk_at dksX2_orderOf_2 9 rfl rfl)
theorem dX2_orderOf_58 : decode cX2_orderOf 58 = .ok (.iload_n 1, 1) := dk_27 (dk_at dksX2_orderOf_2 12 rfl rfl)
theorem dX2_orderOf_59 : decode cX2_orderOf 59 = .ok (.aload_n 0, 1) := dk_42 (dk_at dksX2_orderOf_2 13 rfl rfl)
theorem dX2_orderOf_60 : decode cX2_orderOf 60 = .ok (.getfield 412, 3) := dk_180 1 156 (dk_at dksX2_orderOf_2 14 rfl rfl)
theorem dX2_orderOf_63 : decode cX2_orderOf 63 = .ok (.iload_n 2, 1) := dk_28 (dk_at dksX2_orderOf_2 17 rfl rfl)
theorem dX2_orderOf_64 : decode cX2_orderOf 64 = .ok (.isub, 1) := dk_100 (dk_at dksX2_orderOf_2 18 rfl rfl)
theorem dX2_orderOf_65 : decode cX2_orderOf 65 = .ok (.imul, 1) := dk_104 (dk_at dksX2_orderOf_2 19 rfl rfl)
theorem dX2_orderOf_66 : decode cX2_orderOf 66 = .ok (.iload_n 3, 1) := dk_29 (dk_at dksX2_orderOf_2 20 rfl rfl)
theorem dX2_orderOf_67 : decode cX2_orderOf 67 = .ok (.iadd, 1) := dk_96 (dk_at dksX2_orderOf_2 21 rfl rfl)
theorem dX2_orderOf_68 : decode cX2_orderOf 68 = .ok (.istore_n 1, 1) := dk_60 (dk_at dksX2_orderOf_2 22 rfl rfl)
theorem dX2_orderOf_69 : decode cX2_orderOf 69 = .ok (.iinc 2 1, 3) := dk_132 2 1 (dk_at dksX2_orderOf_3 0 rfl rfl)
theorem dX2_orderOf_72 : decode cX2_orderOf 72 = .ok (.goto (-68), 3) := dk_167 255 188 (dk_at dksX2_orderOf_3 3 rfl rfl)
theorem dX2_orderOf_75 : decode cX2_orderOf 75 = .ok (.iload_n 1, 1) := dk_27 (dk_at dksX2_orderOf_3 6 rfl rfl)
theorem dX2_orderOf_76 : decode cX2_orderOf 76 = .ok (.ireturn, 1) := dk_172 (dk_at dksX2_orderOf_3 7 rfl rfl)
abbrev MX2_orderOf : jjM := (yX2_orderOf, cX2_orderOf, 5, (Option.some Jvm.ClassFile.FieldType.int))
theorem npX2_orderOf : yX2_orderOf.cls ≠ "java/lang/invoke/MethodHandle" ∧ yX2_orderOf.cls ≠ "java/lang/invoke/VarHandle" ∧ (parseMethodDescriptor yX2_orderOf.desc).map (fun d => d.parameters.length) = some 0 := by decide +kernel
abbrev cX2_calmOrder : ByteArray := prog_17_method_113_code
def yX2_calmOrder : MethodName := ⟨RX2, "calmOrder", "(I)I"⟩
def dkwX2_calmOrder_1 : List UInt8 := [28, 27, 160, 0, 5, 29, 172, 132, 2, 1, 132, 3, 1, 167, 255, 223, 2, 172]
abbrev dktX2_calmOrder_1 : List UInt8 := dkwX2_calmOrder_1 ++ []
def dkwX2_calmOrder_0 : List UInt8 := [3, 61, 3, 62, 29, 42, 180, 1, 162, 162, 0, 31, 42, 180, 0, 58, 29, 51, 154, 0, 6, 167, 0, 13]
abbrev dktX2_calmOrder_0 : List UInt8 := dkwX2_calmOrder_0 ++ dktX2_calmOrder_1
theorem dksX2_calmOrder_0 : cX2_calmOrder.data.toList.drop 0 = dktX2_calmOrder_0 := by decide +kernel
theorem dksX2_calmOrder_1 : cX2_calmOrder.data.toList.drop 24 = dktX2_calmOrder_1 := dk_seg dksX2_calmOrder_0 24 rfl rfl
theorem dX2_calmOrder_0 : decode cX2_calmOrder 0 = .ok (.iconst 0, 1) := dk_3 (dk_at dksX2_calmOrder_0 0 rfl rfl)
theorem dX2_calmOrder_1 : decode cX2_calmOrder 1 = .ok (.istore_n 2, 1) := dk_61 (dk_at dksX2_calmOrder_0 1 rfl rfl)
theorem dX2_calmOrder_2 : decode cX2_calmOrder 2 = .ok (.iconst 0, 1) := dk_3 (dk_at dksX2_calmOrder_0 2 rfl rfl)
theorem dX2_calmOrder_3 : decode cX2_calmOrder 3 = .ok (.istore_n 3, 1) := dk_62 (dk_at dksX2_calmOrder_0 3 rfl rfl)
theorem dX2_calmOrder_4 : decode cX2_calmOrder 4 = .ok (.iload_n 3, 1) := dk_29 (dk_at dksX2_calmOrder_0 4 rfl rfl)
theorem dX2_calmOrder_5 : decode cX2_calmOrder 5 = .ok (.aload_n 0, 1) := dk_42 (dk_at dksX2_calmOrder_0 5 rfl rfl)
theorem dX2_calmOrder_6 : decode cX2_calmOrder 6 = .ok (.getfield 418, 3) := dk_180 1 162 (dk_at dksX2_calmOrder_0 6 rfl rfl)
theorem dX2_calmOrder_9 : decode cX2_calmOrder 9 = .ok (.if_icmp .ge 31, 3) := dk_162 0 31 (dk_at dksX2_calmOrder_0 9 rfl rfl)
theorem dX2_calmOrder_12 : decode cX2_calmOrder 12 = .ok (.aload_n 0, 1) := dk_42 (dk_at dksX2_calmOrder_0 12 rfl rfl)
theorem dX2_calmOrder_13 : decode cX2_calmOrder 13 = .ok (.getfield 58, 3) := dk_180 0 58 (dk_at dksX2_calmOrder_0 13 rfl rfl)
theorem dX2_calmOrder_16 : decode cX2_calmOrder 16 = .ok (.iload_n 3, 1) := dk_29 (dk_at dksX2_calmOrder_0 16 rfl rfl)
theorem dX2_calmOrder_17 : decode cX2_calmOrder 17 = .ok (.baload, 1) := dk_51 (dk_at dksX2_calmOrder_0 17 rfl rfl)
theorem dX2_calmOrder_18 : decode cX2_calmOrder 18 = .ok (.ifCond .ne 6, 3) := dk_154 0 6 (dk_at dksX2_calmOrder_0 18 rfl rfl)
theorem dX2_calmOrder_21 : decode cX2_calmOrder 21 = .ok (.goto 13, 3) := dk_167 0 13 (dk_at dksX2_calmOrder_0 21 rfl rfl)
theorem dX2_calmOrder_24 : decode cX2_calmOrder 24 = .ok (.iload_n 2, 1) := dk_28 (dk_at dksX2_calmOrder_1 0 rfl rfl)
theorem dX2_calmOrder_25 : decode cX2_calmOrder 25 = .ok (.iload_n 1, 1) := dk_27 (dk_at dksX2_calmOrder_1 1 rfl rfl)
theorem dX2_calmOrder_26 : decode cX2_calmOrder 26 = .ok (.if_icmp .ne 5, 3) := dk_160 0 5 (dk_at dksX2_calmOrder_1 2 rfl rfl)
theorem dX2_calmOrder_29 : decode cX2_calmOrder 29 = .ok (.iload_n 3, 1) := dk_29 (dk_at dksX2_calmOrder_1 5 rfl rfl)
theorem dX2_calmOrder_30 : decode cX2_calmOrder 30 = .ok (.ireturn, 1) := dk_172 (dk_at dksX2_calmOrder_1 6 rfl rfl)
theorem dX2_calmOrder_31 : decode cX2_calmOrder 31 = .ok (.iinc 2 1, 3) := dk_132 2 1 (dk_at dksX2_calmOrder_1 7 rfl rfl)
theorem dX2_calmOrder_34 : decode cX2_calmOrder 34 = .ok (.iinc 3 1, 3) := dk_132 3 1 (dk_at dksX2_calmOrder_1 10 rfl rfl)
theorem dX2_calmOrder_37 : decode cX2_calmOrder 37 = .ok (.goto (-33), 3) := dk_167 255 223 (dk_at dksX2_calmOrder_1 13 rfl rfl)
theorem dX2_calmOrder_40 : decode cX2_calmOrder 40 = .ok (.iconst (-1), 1) := dk_2 (dk_at dksX2_calmOrder_1 16 rfl rfl)
theorem dX2_calmOrder_41 : decode cX2_calmOrder 41 = .ok (.ireturn, 1) := dk_172 (dk_at dksX2_calmOrder_1 17 rfl rfl)
abbrev MX2_calmOrder : jjM := (yX2_calmOrder, cX2_calmOrder, 4, (Option.some Jvm.ClassFile.FieldType.int))
theorem npX2_calmOrder : yX2_calmOrder.cls ≠ "java/lang/invoke/MethodHandle" ∧ yX2_calmOrder.cls ≠ "java/lang/invoke/VarHandle" ∧ (parseMethodDescriptor yX2_calmOrder.desc).map (fun d => d.parameters.length) = some 1 := by decide +kernel
abbrev cX2_basin : ByteArray := prog_17_method_116_code
def yX2_basin : MethodName := ⟨RX2, "basin", "(II)I"⟩
def dkwX2_basin_3 : List UInt8 := [21, 4, 172]
abbrev dktX2_basin_3 : List UInt8 := dkwX2_basin_3 ++ []
def dkwX2_basin_2 : List UInt8 := [42, 21, 5, 182, 1, 201, 29, 160, 0, 7, 4, 167, 0, 4, 3, 96, 54, 4, 132, 5, 1, 167, 255, 224]
abbrev dktX2_basin_2 : List UInt8 := dkwX2_basin_2 ++ dktX2_basin_3
def dkwX2_basin_1 : List UInt8 := [62, 29, 156, 0, 5, 2, 172, 3, 54, 4, 3, 54, 5, 21, 5, 42, 180, 1, 162, 162, 0, 29, 21, 4]
abbrev dktX2_basin_1 : List UInt8 := dkwX2_basin_1 ++ dktX2_basin_2
def dkwX2_basin_0 : List UInt8 := [42, 27, 182, 1, 192, 153, 0, 7, 28, 156, 0, 5, 2, 172, 42, 27, 182, 1, 195, 42, 28, 182, 1, 198]
abbrev dktX2_basin_0 : List UInt8 := dkwX2_basin_0 ++ dktX2_basin_1
theorem dksX2_basin_0 : cX2_basin.data.toList.drop 0 = dktX2_basin_0 := by decide +kernel
theorem dksX2_basin_1 : cX2_basin.data.toList.drop 24 = dktX2_basin_1 := dk_seg dksX2_basin_0 24 rfl rfl
theorem dksX2_basin_2 : cX2_basin.data.toList.drop 48 = dktX2_basin_2 := dk_seg dksX2_basin_1 24 rfl rfl
theorem dksX2_basin_3 : cX2_basin.data.toList.drop 72 = dktX2_basin_3 := dk_seg dksX2_basin_2 24 rfl rfl
theorem dX2_basin_0 : decode cX2_basin 0 = .ok (.aload_n 0, 1) := dk_42 (dk_at dksX2_basin_0 0 rfl rfl)
theorem dX2_basin_1 : decode cX2_basin 1 = .ok (.iload_n 1, 1) := dk_27 (dk_at dksX2_basin_0 1 rfl rfl)
theorem dX2_basin_2 : decode cX2_basin 2 = .ok (.invokevirtual 448, 3) := dk_182 1 192 (dk_at dksX2_basin_0 2 rfl rfl)
theorem dX2_basin_5 : decode cX2_basin 5 = .ok (.ifCond .eq 7, 3) := dk_153 0 7 (dk_at dksX2_basin_0 5 rfl rfl)
theorem dX2_basin_8 : decode cX2_basin 8 = .ok (.iload_n 2, 1) := dk_28 (dk_at dksX2_basin_0 8 rfl rfl)
theorem dX2_basin_9 : decode cX2_basin 9 = .ok (.ifCond .ge 5, 3) := dk_156 0 5 (dk_at dksX2_basin_0 9 rfl rfl)
theorem dX2_basin_12 : decode cX2_basin 12 = .ok (.iconst (-1), 1) := dk_2 (dk_at dksX2_basin_0 12 rfl rfl)
theorem dX2_basin_13 : decode cX2_basin 13 = .ok (.ireturn, 1) := dk_172 (dk_at dksX2_basin_0 13 rfl rfl)
theorem dX2_basin_14 : decode cX2_basin 14 = .ok (.aload_n 0, 1) := dk_42 (dk_at dksX2_basin_0 14 rfl rfl)
theorem dX2_basin_15 : decode cX2_basin 15 = .ok (.iload_n 1, 1) := dk_27 (dk_at dksX2_basin_0 15 rfl rfl)
theorem dX2_basin_16 : decode cX2_basin 16 = .ok (.invokevirtual 451, 3) := dk_182 1 195 (dk_at dksX2_basin_0 16 rfl rfl)
theorem dX2_basin_19 : decode cX2_basin 19 = .ok (.aload_n 0, 1) := dk_42 (dk_at dksX2_basin_0 19 rfl rfl)
theorem dX2_basin_20 : decode cX2_basin 20 = .ok (.iload_n 2, 1) := dk_28 (dk_at dksX2_basin_0 20 rfl rfl)
theorem dX2_basin_21 : decode cX2_basin 21 = .ok (.invokevirtual 454, 3) := dk_182 1 198 (dk_at dksX2_basin_0 21 rfl rfl)
theorem dX2_basin_24 : decode cX2_basin 24 = .ok (.istore_n 3, 1) := dk_62 (dk_at dksX2_basin_1 0 rfl rfl)
theorem dX2_basin_25 : decode cX2_basin 25 = .ok (.iload_n 3, 1) := dk_29 (dk_at dksX2_basin_1 1 rfl rfl)
theorem dX2_basin_26 : decode cX2_basin 26 = .ok (.ifCond .ge 5, 3) := dk_156 0 5 (dk_at dksX2_basin_1 2 rfl rfl)
theorem dX2_basin_29 : decode cX2_basin 29 = .ok (.iconst (-1), 1) := dk_2 (dk_at dksX2_basin_1 5 rfl rfl)
theorem dX2_basin_30 : decode cX2_basin 30 = .ok (.ireturn, 1) := dk_172 (dk_at dksX2_basin_1 6 rfl rfl)
theorem dX2_basin_31 : decode cX2_basin 31 = .ok (.iconst 0, 1) := dk_3 (dk_at dksX2_basin_1 7 rfl rfl)
theorem dX2_basin_32 : decode cX2_basin 32 = .ok (.istore 4, 2) := dk_54 4 (dk_at dksX2_basin_1 8 rfl rfl)
theorem dX2_basin_34 : decode cX2_basin 34 = .ok (.iconst 0, 1) := dk_3 (dk_at dksX2_basin_1 10 rfl rfl)
theorem dX2_basin_35 : decode cX2_basin 35 = .ok (.istore 5, 2) := dk_54 5 (dk_at dksX2_basin_1 11 rfl rfl)
theorem dX2_basin_37 : decode cX2_basin 37 = .ok (.iload 5, 2) := dk_21 5 (dk_at dksX2_basin_1 13 rfl rfl)
theorem dX2_basin_39 : decode cX2_basin 39 = .ok (.aload_n 0, 1) := dk_42 (dk_at dksX2_basin_1 15 rfl rfl)
theorem dX2_basin_40 : decode cX2_basin 40 = .ok (.getfield 418, 3) := dk_180 1 162 (dk_at dksX2_basin_1 16 rfl rfl)
theorem dX2_basin_43 : decode cX2_basin 43 = .ok (.if_icmp .ge 29, 3) := dk_162 0 29 (dk_at dksX2_basin_1 19 rfl rfl)
theorem dX2_basin_46 : decode cX2_basin 46 = .ok (.iload 4, 2) := dk_21 4 (dk_at dksX2_basin_1 22 rfl rfl)
theorem dX2_basin_48 : decode cX2_basin 48 = .ok (.aload_n 0, 1) := dk_42 (dk_at dksX2_basin_2 0 rfl rfl)
theorem dX2_basin_49 : decode cX2_basin 49 = .ok (.iload 5, 2) := dk_21 5 (dk_at dksX2_basin_2 1 rfl rfl)
theorem dX2_basin_51 : decode cX2_basin 51 = .ok (.invokevirtual 457, 3) := dk_182 1 201 (dk_at dksX2_basin_2 3 rfl rfl)
theorem dX2_basin_54 : decode cX2_basin 54 = .ok (.iload_n 3, 1) := dk_29 (dk_at dksX2_basin_2 6 rfl rfl)
theorem dX2_basin_55 : decode cX2_basin 55 = .ok (.if_icmp .ne 7, 3) := dk_160 0 7 (dk_at dksX2_basin_2 7 rfl rfl)
theorem dX2_basin_58 : decode cX2_basin 58 = .ok (.iconst 1, 1) := dk_4 (dk_at dksX2_basin_2 10 rfl rfl)
theorem dX2_basin_59 : decode cX2_basin 59 = .ok (.goto 4, 3) := dk_167 0 4 (dk_at dksX2_basin_2 11 rfl rfl)
theorem dX2_basin_62 : decode cX2_basin 62 = .ok (.iconst 0, 1) := dk_3 (dk_at dksX2_basin_2 14 rfl rfl)
theorem dX2_basin_63 : decode cX2_basin 63 = .ok (.iadd, 1) := dk_96 (dk_at dksX2_basin_2 15 rfl rfl)
theorem dX2_basin_64 : decode cX2_basin 64 = .ok (.istore 4, 2) := dk_54 4 (dk_at dksX2_basin_2 16 rfl rfl)
theorem dX2_basin_66 : decode cX2_basin 66 = .ok (.iinc 5 1, 3) := dk_132 5 1 (dk_at dksX2_basin_2 18 rfl rfl)
theorem dX2_basin_69 : decode cX2_basin 69 = .ok (.goto (-32), 3) := dk_167 255 224 (dk_at dksX2_basin_2 21 rfl rfl)
theorem dX2_basin_72 : decode cX2_basin 72 = .ok (.iload 4, 2) := dk_21 4 (dk_at dksX2_basin_3 0 rfl rfl)
theorem dX2_basin_74 : decode cX2_basin 74 = .ok (.ireturn, 1) := dk_172 (dk_at dksX2_basin_3 2 rfl rfl)
abbrev MX2_basin : jjM := (yX2_basin, cX2_basin, 6, (Option.some Jvm.ClassFile.FieldType.int))
theorem npX2_basin : yX2_basin.cls ≠ "java/lang/invoke/MethodHandle" ∧ yX2_basin.cls ≠ "java/lang/invoke/VarHandle" ∧ (parseMethodDescriptor yX2_basin.desc).map (fun d => d.parameters.length) = some 2 := by decide +kernel
abbrev cX2_endOf : ByteArray := prog_17_method_115_code
def yX2_endOf : MethodName := ⟨RX2, "endOf", "(I)I"⟩
def dkwX2_endOf_1 : List UInt8 := [172, 42, 180, 0, 55, 5, 28, 104, 29, 5, 112, 96, 46, 61, 132, 3, 1, 167, 255, 219, 2, 172]
abbrev dktX2_endOf_1 : List UInt8 := dkwX2_endOf_1 ++ []
def dkwX2_endOf_0 : List UInt8 := [27, 61, 3, 62, 29, 5, 42, 180, 1, 162, 104, 163, 0, 33, 42, 180, 0, 58, 28, 51, 153, 0, 5, 28]
abbrev dktX2_endOf_0 : List UInt8 := dkwX2_endOf_0 ++ dktX2_endOf_1
theorem dksX2_endOf_0 : cX2_endOf.data.toList.drop 0 = dktX2_endOf_0 := by decide +kernel
theorem dksX2_endOf_1 : cX2_endOf.data.toList.drop 24 = dktX2_endOf_1 := dk_seg dksX2_endOf_0 24 rfl rfl
theorem dX2_endOf_0 : decode cX2_endOf 0 = .ok (.iload_n 1, 1) := dk_27 (dk_at dksX2_endOf_0 0 rfl rfl)
theorem dX2_endOf_1 : decode cX2_endOf 1 = .ok (.istore_n 2, 1) := dk_61 (dk_at dksX2_endOf_0 1 rfl rfl)
theorem dX2_endOf_2 : decode cX2_endOf 2 = .ok (.iconst 0, 1) := dk_3 (dk_at dksX2_endOf_0 2 rfl rfl)
theorem dX2_endOf_3 : decode cX2_endOf 3 = .ok (.istore_n 3, 1) := dk_62 (dk_at dksX2_endOf_0 3 rfl rfl)
theorem dX2_endOf_4 : decode cX2_endOf 4 = .ok (.iload_n 3, 1) := dk_29 (dk_at dksX2_endOf_0 4 rfl rfl)
theorem dX2_endOf_5 : decode cX2_endOf 5 = .ok (.iconst 2, 1) := dk_5 (dk_at dksX2_endOf_0 5 rfl rfl)
theorem dX2_endOf_6 : decode cX2_endOf 6 = .ok (.aload_n 0, 1) := dk_42 (dk_at dksX2_endOf_0 6 rfl rfl)
theorem dX2_endOf_7 : decode cX2_endOf 7 = .ok (.getfield 418, 3) := dk_180 1 162 (dk_at dksX2_endOf_0 7 rfl rfl)
theorem dX2_endOf_10 : decode cX2_endOf 10 = .ok (.imul, 1) := dk_104 (dk_at dksX2_endOf_0 10 rfl rfl)
theorem dX2_endOf_11 : decode cX2_endOf 11 = .ok (.if_icmp .gt 33, 3) := dk_163 0 33 (dk_at dksX2_endOf_0 11 rfl rfl)
theorem dX2_endOf_14 : decode cX2_endOf 14 = .ok (.aload_n 0, 1) := dk_42 (dk_at dksX2_endOf_0 14 rfl rfl)
theorem dX2_endOf_15 : decode cX2_endOf 15 = .ok (.getfield 58, 3) := dk_180 0 58 (dk_at dksX2_endOf_0 15 rfl rfl)
theorem dX2_endOf_18 : decode cX2_endOf 18 = .ok (.iload_n 2, 1) := dk_28 (dk_at dksX2_endOf_0 18 rfl rfl)
theorem dX2_endOf_19 : decode cX2_endOf 19 = .ok (.baload, 1) := dk_51 (dk_at dksX2_endOf_0 19 rfl rfl)
theorem dX2_endOf_20 : decode cX2_endOf 20 = .ok (.ifCond .eq 5, 3) := dk_153 0 5 (dk_at dksX2_endOf_0 20 rfl rfl)
theorem dX2_endOf_23 : decode cX2_endOf 23 = .ok (.iload_n 2, 1) := dk_28 (dk_at dksX2_endOf_0 23 rfl rfl)
theorem dX2_endOf_24 : decode cX2_endOf 24 = .ok (.ireturn, 1) := dk_172 (dk_at dksX2_endOf_1 0 rfl rfl)
theorem dX2_endOf_25 : decode cX2_endOf 25 = .ok (.aload_n 0, 1) := dk_42 (dk_at dksX2_endOf_1 1 rfl rfl)
theorem dX2_endOf_26 : decode cX2_endOf 26 = .ok (.getfield 55, 3) := dk_180 0 55 (dk_at dksX2_endOf_1 2 rfl rfl)
theorem dX2_endOf_29 : decode cX2_endOf 29 = .ok (.iconst 2, 1) := dk_5 (dk_at dksX2_endOf_1 5 rfl rfl)
theorem dX2_endOf_30 : decode cX2_endOf 30 = .ok (.iload_n 2, 1) := dk_28 (dk_at dksX2_endOf_1 6 rfl rfl)
theorem dX2_endOf_31 : decode cX2_endOf 31 = .ok (.imul, 1) := dk_104 (dk_at dksX2_endOf_1 7 rfl rfl)
theorem dX2_endOf_32 : decode cX2_endOf 32 = .ok (.iload_n 3, 1) := dk_29 (dk_at dksX2_endOf_1 8 rfl rfl)
theorem dX2_endOf_33 : decode cX2_endOf 33 = .ok (.iconst 2, 1) := dk_5 (dk_at dksX2_endOf_1 9 rfl rfl)
theorem dX2_endOf_34 : decode cX2_endOf 34 = .ok (.irem, 1) := dk_112 (dk_at dksX2_endOf_1 10 rfl rfl)
theorem dX2_endOf_35 : decode cX2_endOf 35 = .ok (.iadd, 1) := dk_96 (dk_at dksX2_endOf_1 11 rfl rfl)
theorem dX2_endOf_36 : decode cX2_endOf 36 = .ok (.iaload, 1) := dk_46 (dk_at dksX2_endOf_1 12 rfl rfl)
theorem dX2_endOf_37 : decode cX2_endOf 37 = .ok (.istore_n 2, 1) := dk_61 (dk_at dksX2_endOf_1 13 rfl rfl)
theorem dX2_endOf_38 : decode cX2_endOf 38 = .ok (.iinc 3 1, 3) := dk_132 3 1 (dk_at dksX2_endOf_1 14 rfl rfl)
theorem dX2_endOf_41 : decode cX2_endOf 41 = .ok (.goto (-37), 3) := dk_167 255 219 (dk_at dksX2_endOf_1 17 rfl rfl)
theorem dX2_endOf_44 : decode cX2_endOf 44 = .ok (.iconst (-1), 1) := dk_2 (dk_at dksX2_endOf_1 20 rfl rfl)
theorem dX2_endOf_45 : decode cX2_endOf 45 = .ok (.ireturn, 1) := dk_172 (dk_at dksX2_endOf_1 21 rfl rfl)
abbrev MX2_endOf : jjM := (yX2_endOf, cX2_endOf, 4, (Option.some Jvm.ClassFile.FieldType.int))
theorem npX2_endOf : yX2_endOf.cls ≠ "java/lang/invoke/MethodHandle" ∧ yX2_endOf.cls ≠ "java/lang/invoke/VarHandle" ∧ (parseMethodDescriptor yX2_endOf.desc).map (fun d => d.parameters.length) = some 1 := by decide +kernel
abbrev cX2_never : ByteArray := prog_17_method_117_code
def yX2_never : MethodName := ⟨RX2, "never", "(I)I"⟩
def dkwX2_never_2 : List UInt8 := [167, 255, 229, 28, 172]
abbrev dktX2_never_2 : List UInt8 := dkwX2_never_2 ++ []
def dkwX2_never_1 : List UInt8 := [162, 0, 25, 28, 42, 29, 182, 1, 201, 156, 0, 7, 4, 167, 0, 4, 3, 96, 61, 132, 3, 1]
abbrev dktX2_never_1 : List UInt8 := dkwX2_never_1 ++ dktX2_never_2
def dkwX2_never_0 : List UInt8 := [42, 27, 182, 1, 192, 154, 0, 5, 2, 172, 42, 27, 182, 1, 195, 3, 61, 3, 62, 29, 42, 180, 1, 162]
abbrev dktX2_never_0 : List UInt8 := dkwX2_never_0 ++ dktX2_never_1
theorem dksX2_never_0 : cX2_never.data.toList.drop 0 = dktX2_never_0 := by decide +kernel
theorem dksX2_never_1 : cX2_never.data.toList.drop 24 = dktX2_never_1 := dk_seg dksX2_never_0 24 rfl rfl
theorem dksX2_never_2 : cX2_never.data.toList.drop 46 = dktX2_never_2 := dk_seg dksX2_never_1 22 rfl rfl
theorem dX2_never_0 : decode cX2_never 0 = .ok (.aload_n 0, 1) := dk_42 (dk_at dksX2_never_0 0 rfl rfl)
theorem dX2_never_1 : decode cX2_never 1 = .ok (.iload_n 1, 1) := dk_27 (dk_at dksX2_never_0 1 rfl rfl)
theorem dX2_never_2 : decode cX2_never 2 = .ok (.invokevirtual 448, 3) := dk_182 1 192 (dk_at dksX2_never_0 2 rfl rfl)
theorem dX2_never_5 : decode cX2_never 5 = .ok (.ifCond .ne 5, 3) := dk_154 0 5 (dk_at dksX2_never_0 5 rfl rfl)
theorem dX2_never_8 : decode cX2_never 8 = .ok (.iconst (-1), 1) := dk_2 (dk_at dksX2_never_0 8 rfl rfl)
theorem dX2_never_9 : decode cX2_never 9 = .ok (.ireturn, 1) := dk_172 (dk_at dksX2_never_0 9 rfl rfl)
theorem dX2_never_10 : decode cX2_never 10 = .ok (.aload_n 0, 1) := dk_42 (dk_at dksX2_never_0 10 rfl rfl)
theorem dX2_never_11 : decode cX2_never 11 = .ok (.iload_n 1, 1) := dk_27 (dk_at dksX2_never_0 11 rfl rfl)
theorem dX2_never_12 : decode cX2_never 12 = .ok (.invokevirtual 451, 3) := dk_182 1 195 (dk_at dksX2_never_0 12 rfl rfl)
theorem dX2_never_15 : decode cX2_never 15 = .ok (.iconst 0, 1) := dk_3 (dk_at dksX2_never_0 15 rfl rfl)
theorem dX2_never_16 : decode cX2_never 16 = .ok (.istore_n 2, 1) := dk_61 (dk_at dksX2_never_0 16 rfl rfl)
theorem dX2_never_17 : decode cX2_never 17 = .ok (.iconst 0, 1) := dk_3 (dk_at dksX2_never_0 17 rfl rfl)
theorem dX2_never_18 : decode cX2_never 18 = .ok (.istore_n 3, 1) := dk_62 (dk_at dksX2_never_0 18 rfl rfl)
theorem dX2_never_19 : decode cX2_never 19 = .ok (.iload_n 3, 1) := dk_29 (dk_at dksX2_never_0 19 rfl rfl)
theorem dX2_never_20 : decode cX2_never 20 = .ok (.aload_n 0, 1) := dk_42 (dk_at dksX2_never_0 20 rfl rfl)
theorem dX2_never_21 : decode cX2_never 21 = .ok (.getfield 418, 3) := dk_180 1 162 (dk_at dksX2_never_0 21 rfl rfl)
theorem dX2_never_24 : decode cX2_never 24 = .ok (.if_icmp .ge 25, 3) := dk_162 0 25 (dk_at dksX2_never_1 0 rfl rfl)
theorem dX2_never_27 : decode cX2_never 27 = .ok (.iload_n 2, 1) := dk_28 (dk_at dksX2_never_1 3 rfl rfl)
theorem dX2_never_28 : decode cX2_never 28 = .ok (.aload_n 0, 1) := dk_42 (dk_at dksX2_never_1 4 rfl rfl)
theorem dX2_never_29 : decode cX2_never 29 = .ok (.iload_n 3, 1) := dk_29 (dk_at dksX2_never_1 5 rfl rfl)
theorem dX2_never_30 : decode cX2_never 30 = .ok (.invokevirtual 457, 3) := dk_182 1 201 (dk_at dksX2_never_1 6 rfl rfl)
theorem dX2_never_33 : decode cX2_never 33 = .ok (.ifCond .ge 7, 3) := dk_156 0 7 (dk_at dksX2_never_1 9 rfl rfl)
theorem dX2_never_36 : decode cX2_never 36 = .ok (.iconst 1, 1) := dk_4 (dk_at dksX2_never_1 12 rfl rfl)
theorem dX2_never_37 : decode cX2_never 37 = .ok (.goto 4, 3) := dk_167 0 4 (dk_at dksX2_never_1 13 rfl rfl)
theorem dX2_never_40 : decode cX2_never 40 = .ok (.iconst 0, 1) := dk_3 (dk_at dksX2_never_1 16 rfl rfl)
theorem dX2_never_41 : decode cX2_never 41 = .ok (.iadd, 1) := dk_96 (dk_at dksX2_never_1 17 rfl rfl)
theorem dX2_never_42 : decode cX2_never 42 = .ok (.istore_n 2, 1) := dk_61 (dk_at dksX2_never_1 18 rfl rfl)
theorem dX2_never_43 : decode cX2_never 43 = .ok (.iinc 3 1, 3) := dk_132 3 1 (dk_at dksX2_never_1 19 rfl rfl)
theorem dX2_never_46 : decode cX2_never 46 = .ok (.goto (-27), 3) := dk_167 255 229 (dk_at dksX2_never_2 0 rfl rfl)
theorem dX2_never_49 : decode cX2_never 49 = .ok (.iload_n 2, 1) := dk_28 (dk_at dksX2_never_2 3 rfl rfl)
theorem dX2_never_50 : decode cX2_never 50 = .ok (.ireturn, 1) := dk_172 (dk_at dksX2_never_2 4 rfl rfl)
abbrev MX2_never : jjM := (yX2_never, cX2_never, 4, (Option.some Jvm.ClassFile.FieldType.int))
theorem npX2_never : yX2_never.cls ≠ "java/lang/invoke/MethodHandle" ∧ yX2_never.cls ≠ "java/lang/invoke/VarHandle" ∧ (parseMethodDescriptor yX2_never.desc).map (fun d => d.parameters.length) = some 1 := by decide +kernel
abbrev cX2_trouble : ByteArray := prog_17_method_119_code
def yX2_trouble : MethodName := ⟨RX2, "trouble", "()I"⟩
def dkwX2_trouble_2 : List UInt8 := [153, 0, 5, 28, 172, 132, 2, 1, 167, 255, 216, 132, 1, 1, 167, 255, 203, 2, 172]
abbrev dktX2_trouble_2 : List UInt8 := dkwX2_trouble_2 ++ []
def dkwX2_trouble_1 : List UInt8 := [162, 0, 34, 28, 184, 1, 186, 27, 159, 0, 6, 167, 0, 17, 42, 28, 182, 1, 189, 42, 182, 1, 204]
abbrev dktX2_trouble_1 : List UInt8 := dkwX2_trouble_1 ++ dktX2_trouble_2
def dkwX2_trouble_0 : List UInt8 := [42, 182, 1, 129, 5, 60, 27, 8, 163, 0, 54, 3, 61, 28, 4, 42, 180, 0, 7, 3, 46, 120]
abbrev dktX2_trouble_0 : List UInt8 := dkwX2_trouble_0 ++ dktX2_trouble_1
theorem dksX2_trouble_0 : cX2_trouble.data.toList.drop 0 = dktX2_trouble_0 := by decide +kernel
theorem dksX2_trouble_1 : cX2_trouble.data.toList.drop 22 = dktX2_trouble_1 := dk_seg dksX2_trouble_0 22 rfl rfl
theorem dksX2_trouble_2 : cX2_trouble.data.toList.drop 45 = dktX2_trouble_2 := dk_seg dksX2_trouble_1 23 rfl rfl
theorem dX2_trouble_0 : decode cX2_trouble 0 = .ok (.aload_n 0, 1) := dk_42 (dk_at dksX2_trouble_0 0 rfl rfl)
theorem dX2_trouble_1 : decode cX2_trouble 1 = .ok (.invokevirtual 385, 3) := dk_182 1 129 (dk_at dksX2_trouble_0 1 rfl rfl)
theorem dX2_trouble_4 : decode cX2_trouble 4 = .ok (.iconst 2, 1) := dk_5 (dk_at dksX2_trouble_0 4 rfl rfl)
theorem dX2_trouble_5 : decode cX2_trouble 5 = .ok (.istore_n 1, 1) := dk_60 (dk_at dksX2_trouble_0 5 rfl rfl)
theorem dX2_trouble_6 : decode cX2_trouble 6 = .ok (.iload_n 1, 1) := dk_27 (dk_at dksX2_trouble_0 6 rfl rfl)
theorem dX2_trouble_7 : decode cX2_trouble 7 = .ok (.iconst 5, 1) := dk_8 (dk_at dksX2_trouble_0 7 rfl rfl)
theorem dX2_trouble_8 : decode cX2_trouble 8 = .ok (.if_icmp .gt 54, 3) := dk_163 0 54 (dk_at dksX2_trouble_0 8 rfl rfl)
theorem dX2_trouble_11 : decode cX2_trouble 11 = .ok (.iconst 0, 1) := dk_3 (dk_at dksX2_trouble_0 11 rfl rfl)
theorem dX2_trouble_12 : decode cX2_trouble 12 = .ok (.istore_n 2, 1) := dk_61 (dk_at dksX2_trouble_0 12 rfl rfl)
theorem dX2_trouble_13 : decode cX2_trouble 13 = .ok (.iload_n 2, 1) := dk_28 (dk_at dksX2_trouble_0 13 rfl rfl)
theorem dX2_trouble_14 : decode cX2_trouble 14 = .ok (.iconst 1, 1) := dk_4 (dk_at dksX2_trouble_0 14 rfl rfl)
theorem dX2_trouble_15 : decode cX2_trouble 15 = .ok (.aload_n 0, 1) := dk_42 (dk_at dksX2_trouble_0 15 rfl rfl)
theorem dX2_trouble_16 : decode cX2_trouble 16 = .ok (.getfield 7, 3) := dk_180 0 7 (dk_at dksX2_trouble_0 16 rfl rfl)
theorem dX2_trouble_19 : decode cX2_trouble 19 = .ok (.iconst 0, 1) := dk_3 (dk_at dksX2_trouble_0 19 rfl rfl)
theorem dX2_trouble_20 : decode cX2_trouble 20 = .ok (.iaload, 1) := dk_46 (dk_at dksX2_trouble_0 20 rfl rfl)
theorem dX2_trouble_21 : decode cX2_trouble 21 = .ok (.ishl, 1) := dk_120 (dk_at dksX2_trouble_0 21 rfl rfl)
theorem dX2_trouble_22 : decode cX2_trouble 22 = .ok (.if_icmp .ge 34, 3) := dk_162 0 34 (dk_at dksX2_trouble_1 0 rfl rfl)
theorem dX2_trouble_25 : decode cX2_trouble 25 = .ok (.iload_n 2, 1) := dk_28 (dk_at dksX2_trouble_1 3 rfl rfl)
theorem dX2_trouble_26 : decode cX2_trouble 26 = .ok (.invokestatic 442, 3) := dk_184 1 186 (dk_at dksX2_trouble_1 4 rfl rfl)
theorem dX2_trouble_29 : decode cX2_trouble 29 = .ok (.iload_n 1, 1) := dk_27 (dk_at dksX2_trouble_1 7 rfl rfl)
theorem dX2_trouble_30 : decode cX2_trouble 30 = .ok (.if_icmp .eq 6, 3) := dk_159 0 6 (dk_at dksX2_trouble_1 8 rfl rfl)
theorem dX2_trouble_33 : decode cX2_trouble 33 = .ok (.goto 17, 3) := dk_167 0 17 (dk_at dksX2_trouble_1 11 rfl rfl)
theorem dX2_trouble_36 : decode cX2_trouble 36 = .ok (.aload_n 0, 1) := dk_42 (dk_at dksX2_trouble_1 14 rfl rfl)
theorem dX2_trouble_37 : decode cX2_trouble 37 = .ok (.iload_n 2, 1) := dk_28 (dk_at dksX2_trouble_1 15 rfl rfl)
theorem dX2_trouble_38 : decode cX2_trouble 38 = .ok (.invokevirtual 445, 3) := dk_182 1 189 (dk_at dksX2_trouble_1 16 rfl rfl)
theorem dX2_trouble_41 : decode cX2_trouble 41 = .ok (.aload_n 0, 1) := dk_42 (dk_at dksX2_trouble_1 19 rfl rfl)
theorem dX2_trouble_42 : decode cX2_trouble 42 = .ok (.invokevirtual 460, 3) := dk_182 1 204 (dk_at dksX2_trouble_1 20 rfl rfl)
theorem dX2_trouble_45 : decode cX2_trouble 45 = .ok (.ifCond .eq 5, 3) := dk_153 0 5 (dk_at dksX2_trouble_2 0 rfl rfl)
theorem dX2_trouble_48 : decode cX2_trouble 48 = .ok (.iload_n 2, 1) := dk_28 (dk_at dksX2_trouble_2 3 rfl rfl)
theorem dX2_trouble_49 : decode cX2_trouble 49 = .ok (.ireturn, 1) := dk_172 (dk_at dksX2_trouble_2 4 rfl rfl)
theorem dX2_trouble_50 : decode cX2_trouble 50 = .ok (.iinc 2 1, 3) := dk_132 2 1 (dk_at dksX2_trouble_2 5 rfl rfl)
theorem dX2_trouble_53 : decode cX2_trouble 53 = .ok (.goto (-40), 3) := dk_167 255 216 (dk_at dksX2_trouble_2 8 rfl rfl)
theorem dX2_trouble_56 : decode cX2_trouble 56 = .ok (.iinc 1 1, 3) := dk_132 1 1 (dk_at dksX2_trouble_2 11 rfl rfl)
theorem dX2_trouble_59 : decode cX2_trouble 59 = .ok (.goto (-53), 3) := dk_167 255 203 (dk_at dksX2_trouble_2 14 rfl rfl)
theorem dX2_trouble_62 : decode cX2_trouble 62 = .ok (.iconst (-1), 1) := dk_2 (dk_at dksX2_trouble_2 17 rfl rfl)
theorem dX2_trouble_63 : decode cX2_trouble 63 = .ok (.ireturn, 1) := dk_172 (dk_at dksX2_trouble_2 18 rfl rfl)
abbrev MX2_trouble : jjM := (yX2_trouble, cX2_trouble, 3, (Option.some Jvm.ClassFile.FieldType.int))
theorem npX2_trouble : yX2_trouble.cls ≠ "java/lang/invoke/MethodHandle" ∧ yX2_trouble.cls ≠ "java/lang/invoke/VarHandle" ∧ (parseMethodDescriptor yX2_trouble.desc).map (fun d => d.parameters.length) = some 0 := by decide +kernel
abbrev cX2_hasNever : ByteArray := prog_17_method_118_code
def yX2_hasNever : MethodName := ⟨RX2, "hasNever", "()Z"⟩
def dkwX2_hasNever_1 : List UInt8 := [167, 255, 235, 3, 172]
abbrev dktX2_hasNever_1 : List UInt8 := dkwX2_hasNever_1 ++ []
def dkwX2_hasNever_0 : List UInt8 := [3, 60, 27, 42, 180, 1, 162, 162, 0, 19, 42, 27, 182, 1, 201, 156, 0, 5, 4, 172, 132, 1, 1]
abbrev dktX2_hasNever_0 : List UInt8 := dkwX2_hasNever_0 ++ dktX2_hasNever_1
theorem dksX2_hasNever_0 : cX2_hasNever.data.toList.drop 0 = dktX2_hasNever_0 := by decide +kernel
theorem dksX2_hasNever_1 : cX2_hasNever.data.toList.drop 23 = dktX2_hasNever_1 := dk_seg dksX2_hasNever_0 23 rfl rfl
theorem dX2_hasNever_0 : decode cX2_hasNever 0 = .ok (.iconst 0, 1) := dk_3 (dk_at dksX2_hasNever_0 0 rfl rfl)
theorem dX2_hasNever_1 : decode cX2_hasNever 1 = .ok (.istore_n 1, 1) := dk_60 (dk_at dksX2_hasNever_0 1 rfl rfl)
theorem dX2_hasNever_2 : decode cX2_hasNever 2 = .ok (.iload_n 1, 1) := dk_27 (dk_at dksX2_hasNever_0 2 rfl rfl)
theorem dX2_hasNever_3 : decode cX2_hasNever 3 = .ok (.aload_n 0, 1) := dk_42 (dk_at dksX2_hasNever_0 3 rfl rfl)
theorem dX2_hasNever_4 : decode cX2_hasNever 4 = .ok (.getfield 418, 3) := dk_180 1 162 (dk_at dksX2_hasNever_0 4 rfl rfl)
theorem dX2_hasNever_7 : decode cX2_hasNever 7 = .ok (.if_icmp .ge 19, 3) := dk_162 0 19 (dk_at dksX2_hasNever_0 7 rfl rfl)
theorem dX2_hasNever_10 : decode cX2_hasNever 10 = .ok (.aload_n 0, 1) := dk_42 (dk_at dksX2_hasNever_0 10 rfl rfl)
theorem dX2_hasNever_11 : decode cX2_hasNever 11 = .ok (.iload_n 1, 1) := dk_27 (dk_at dksX2_hasNever_0 11 rfl rfl)
theorem dX2_hasNever_12 : decode cX2_hasNever 12 = .ok (.invokevirtual 457, 3) := dk_182 1 201 (dk_at dksX2_hasNever_0 12 rfl rfl)
theorem dX2_hasNever_15 : decode cX2_hasNever 15 = .ok (.ifCond .ge 5, 3) := dk_156 0 5 (dk_at dksX2_hasNever_0 15 rfl rfl)
theorem dX2_hasNever_18 : decode cX2_hasNever 18 = .ok (.iconst 1, 1) := dk_4 (dk_at dksX2_hasNever_0 18 rfl rfl)
theorem dX2_hasNever_19 : decode cX2_hasNever 19 = .ok (.ireturn, 1) := dk_172 (dk_at dksX2_hasNever_0 19 rfl rfl)
theorem dX2_hasNever_20 : decode cX2_hasNever 20 = .ok (.iinc 1 1, 3) := dk_132 1 1 (dk_at dksX2_hasNever_0 20 rfl rfl)
theorem dX2_hasNever_23 : decode cX2_hasNever 23 = .ok (.goto (-21), 3) := dk_167 255 235 (dk_at dksX2_hasNever_1 0 rfl rfl)
theorem dX2_hasNever_26 : decode cX2_hasNever 26 = .ok (.iconst 0, 1) := dk_3 (dk_at dksX2_hasNever_1 3 rfl rfl)
theorem dX2_hasNever_27 : decode cX2_hasNever 27 = .ok (.ireturn, 1) := dk_172 (dk_at dksX2_hasNever_1 4 rfl rfl)
abbrev MX2_hasNever : jjM := (yX2_hasNever, cX2_hasNever, 2, (Option.some Jvm.ClassFile.FieldType.boolean))
theorem npX2_hasNever : yX2_hasNever.cls ≠ "java/lang/invoke/MethodHandle" ∧ yX2_hasNever.cls ≠ "java/lang/invoke/VarHandle" ∧ (parseMethodDescriptor yX2_hasNever.desc).map (fun d => d.parameters.length) = some 0 := by decide +kernel
abbrev cX2_rank : ByteArray := prog_17_method_121_code
def yX2_rank : MethodName := ⟨RX2, "rank", "(II)I"⟩
def dkwX2_rank_2 : List UInt8 := [180, 0, 61, 42, 180, 0, 52, 16, 6, 29, 104, 28, 96, 46, 46, 172, 132, 3, 1, 167, 255, 220, 2, 172]
abbrev dktX2_rank_2 : List UInt8 := dkwX2_rank_2 ++ []
def dkwX2_rank_1 : List UInt8 := [42, 27, 182, 1, 195, 3, 62, 29, 42, 180, 1, 162, 162, 0, 34, 42, 29, 182, 1, 207, 153, 0, 20, 42]
abbrev dktX2_rank_1 : List UInt8 := dkwX2_rank_1 ++ dktX2_rank_2
def dkwX2_rank_0 : List UInt8 := [42, 27, 182, 1, 192, 153, 0, 17, 28, 3, 27, 184, 1, 186, 4, 100, 184, 0, 89, 154, 0, 5, 2, 172]
abbrev dktX2_rank_0 : List UInt8 := dkwX2_rank_0 ++ dktX2_rank_1
theorem dksX2_rank_0 : cX2_rank.data.toList.drop 0 = dktX2_rank_0 := by decide +kernel
theorem dksX2_rank_1 : cX2_rank.data.toList.drop 24 = dktX2_rank_1 := dk_seg dksX2_rank_0 24 rfl rfl
theorem dksX2_rank_2 : cX2_rank.data.toList.drop 48 = dktX2_rank_2 := dk_seg dksX2_rank_1 24 rfl rfl
theorem dX2_rank_0 : decode cX2_rank 0 = .ok (.aload_n 0, 1) := dk_42 (dk_at dksX2_rank_0 0 rfl rfl)
theorem dX2_rank_1 : decode cX2_rank 1 = .ok (.iload_n 1, 1) := dk_27 (dk_at dksX2_rank_0 1 rfl rfl)
theorem dX2_rank_2 : decode cX2_rank 2 = .ok (.invokevirtual 448, 3) := dk_182 1 192 (dk_at dksX2_rank_0 2 rfl rfl)
theorem dX2_rank_5 : decode cX2_rank 5 = .ok (.ifCond .eq 17, 3) := dk_153 0 17 (dk_at dksX2_rank_0 5 rfl rfl)
theorem dX2_rank_8 : decode cX2_rank 8 = .ok (.iload_n 2, 1) := dk_28 (dk_at dksX2_rank_0 8 rfl rfl)
theorem dX2_rank_9 : decode cX2_rank 9 = .ok (.iconst 0, 1) := dk_3 (dk_at dksX2_rank_0 9 rfl rfl)
theorem dX2_rank_10 : decode cX2_rank 10 = .ok (.iload_n 1, 1) := dk_27 (dk_at dksX2_rank_0 10 rfl rfl)
theorem dX2_rank_11 : decode cX2_rank 11 = .ok (.invokestatic 442, 3) := dk_184 1 186 (dk_at dksX2_rank_0 11 rfl rfl)
theorem dX2_rank_14 : decode cX2_rank 14 = .ok (.iconst 1, 1) := dk_4 (dk_at dksX2_rank_0 14 rfl rfl)
theorem dX2_rank_15 : decode cX2_rank 15 = .ok (.isub, 1) := dk_100 (dk_at dksX2_rank_0 15 rfl rfl)
theorem dX2_rank_16 : decode cX2_rank 16 = .ok (.invokestatic 89, 3) := dk_184 0 89 (dk_at dksX2_rank_0 16 rfl rfl)
theorem dX2_rank_19 : decode cX2_rank 19 = .ok (.ifCond .ne 5, 3) := dk_154 0 5 (dk_at dksX2_rank_0 19 rfl rfl)
theorem dX2_rank_22 : decode cX2_rank 22 = .ok (.iconst (-1), 1) := dk_2 (dk_at dksX2_rank_0 22 rfl rfl)
theorem dX2_rank_23 : decode cX2_rank 23 = .ok (.ireturn, 1) := dk_172 (dk_at dksX2_rank_0 23 rfl rfl)
theorem dX2_rank_24 : decode cX2_rank 24 = .ok (.aload_n 0, 1) := dk_42 (dk_at dksX2_rank_1 0 rfl rfl)
theorem dX2_rank_25 : decode cX2_rank 25 = .ok (.iload_n 1, 1) := dk_27 (dk_at dksX2_rank_1 1 rfl rfl)
theorem dX2_rank_26 : decode cX2_rank 26 = .ok (.invokevirtual 451, 3) := dk_182 1 195 (dk_at dksX2_rank_1 2 rfl rfl)
theorem dX2_rank_29 : decode cX2_rank 29 = .ok (.iconst 0, 1) := dk_3 (dk_at dksX2_rank_1 5 rfl rfl)
theorem dX2_rank_30 : decode cX2_rank 30 = .ok (.istore_n 3, 1) := dk_62 (dk_at dksX2_rank_1 6 rfl rfl)
theorem dX2_rank_31 : decode cX2_rank 31 = .ok (.iload_n 3, 1) := dk_29 (dk_at dksX2_rank_1 7 rfl rfl)
theorem dX2_rank_32 : decode cX2_rank 32 = .ok (.aload_n 0, 1) := dk_42 (dk_at dksX2_rank_1 8 rfl rfl)
theorem dX2_rank_33 : decode cX2_rank 33 = .ok (.getfield 418, 3) := dk_180 1 162 (dk_at dksX2_rank_1 9 rfl rfl)
theorem dX2_rank_36 : decode cX2_rank 36 = .ok (.if_icmp .ge 34, 3) := dk_162 0 34 (dk_at dksX2_rank_1 12 rfl rfl)
theorem dX2_rank_39 : decode cX2_rank 39 = .ok (.aload_n 0, 1) := dk_42 (dk_at dksX2_rank_1 15 rfl rfl)
theorem dX2_rank_40 : decode cX2_rank 40 = .ok (.iload_n 3, 1) := dk_29 (dk_at dksX2_rank_1 16 rfl rfl)
theorem dX2_rank_41 : decode cX2_rank 41 = .ok (.invokevirtual 463, 3) := dk_182 1 207 (dk_at dksX2_rank_1 17 rfl rfl)
theorem dX2_rank_44 : decode cX2_rank 44 = .ok (.ifCond .eq 20, 3) := dk_153 0 20 (dk_at dksX2_rank_1 20 rfl rfl)
theorem dX2_rank_47 : decode cX2_rank 47 = .ok (.aload_n 0, 1) := dk_42 (dk_at dksX2_rank_1 23 rfl rfl)
theorem dX2_rank_48 : decode cX2_rank 48 = .ok (.getfield 61, 3) := dk_180 0 61 (dk_at dksX2_rank_2 0 rfl rfl)
theorem dX2_rank_51 : decode cX2_rank 51 = .ok (.aload_n 0, 1) := dk_42 (dk_at dksX2_rank_2 3 rfl rfl)
theorem dX2_rank_52 : decode cX2_rank 52 = .ok (.getfield 52, 3) := dk_180 0 52 (dk_at dksX2_rank_2 4 rfl rfl)
theorem dX2_rank_55 : decode cX2_rank 55 = .ok (.bipush 6, 2) := dk_16 6 (dk_at dksX2_rank_2 7 rfl rfl)
theorem dX2_rank_57 : decode cX2_rank 57 = .ok (.iload_n 3, 1) := dk_29 (dk_at dksX2_rank_2 9 rfl rfl)
theorem dX2_rank_58 : decode cX2_rank 58 = .ok (.imul, 1) := dk_104 (dk_at dksX2_rank_2 10 rfl rfl)
theorem dX2_rank_59 : decode cX2_rank 59 = .ok (.iload_n 2, 1) := dk_28 (dk_at dksX2_rank_2 11 rfl rfl)
theorem dX2_rank_60 : decode cX2_rank 60 = .ok (.iadd, 1) := dk_96 (dk_at dksX2_rank_2 12 rfl rfl)
theorem dX2_rank_61 : decode cX2_rank 61 = .ok (.iaload, 1) := dk_46 (dk_at dksX2_rank_2 13 rfl rfl)
theorem dX2_rank_62 : decode cX2_rank 62 = .ok (.iaload, 1) := dk_46 (dk_at dksX2_rank_2 14 rfl rfl)
theorem dX2_rank_63 : decode cX2_rank 63 = .ok (.ireturn, 1) := dk_172 (dk_at dksX2_rank_2 15 rfl rfl)
theorem dX2_rank_64 : decode cX2_rank 64 = .ok (.iinc 3 1, 3) := dk_132 3 1 (dk_at dksX2_rank_2 16 rfl rfl)
theorem dX2_rank_67 : decode cX2_rank 67 = .ok (.goto (-36), 3) := dk_167 255 220 (dk_at dksX2_rank_2 19 rfl rfl)
theorem dX2_rank_70 : decode cX2_rank 70 = .ok (.iconst (-1), 1) := dk_2 (dk_at dksX2_rank_2 22 rfl rfl)
theorem dX2_rank_71 : decode cX2_rank 71 = .ok (.ireturn, 1) := dk_172 (dk_at dksX2_rank_2 23 rfl rfl)
abbrev MX2_rank : jjM := (yX2_rank, cX2_rank, 4, (Option.some Jvm.ClassFile.FieldType.int))
theorem npX2_rank : yX2_rank.cls ≠ "java/lang/invoke/MethodHandle" ∧ yX2_rank.cls ≠ "java/lang/invoke/VarHandle" ∧ (parseMethodDescriptor yX2_rank.desc).map (fun d => d.parameters.length) = some 2 := by decide +kernel
abbrev cX2_isRank : ByteArray := prog_17_method_120_code
def yX2_isRank : MethodName := ⟨RX2, "isRank", "(I)Z"⟩
def dkwX2_isRank_4 : List UInt8 := [132, 3, 1, 167, 255, 175, 132, 2, 1, 167, 255, 157, 4, 172]
abbrev dktX2_isRank_4 : List UInt8 := dkwX2_isRank_4 ++ []
def dkwX2_isRank_3 : List UInt8 := [96, 51, 154, 0, 19, 42, 180, 0, 43, 16, 10, 21, 5, 104, 21, 4, 96, 51, 154, 0, 5, 3, 172]
abbrev dktX2_isRank_3 : List UInt8 := dkwX2_isRank_3 ++ dktX2_isRank_4
def dkwX2_isRank_2 : List UInt8 := [180, 0, 52, 16, 6, 27, 104, 29, 96, 46, 46, 54, 5, 42, 180, 0, 43, 16, 10, 21, 4, 104, 21, 5]
abbrev dktX2_isRank_2 : List UInt8 := dkwX2_isRank_2 ++ dktX2_isRank_3
def dkwX2_isRank_1 : List UInt8 := [180, 0, 61, 42, 180, 0, 52, 16, 6, 27, 104, 28, 96, 46, 46, 54, 4, 42, 180, 0, 61, 42]
abbrev dktX2_isRank_1 : List UInt8 := dkwX2_isRank_1 ++ dktX2_isRank_2
def dkwX2_isRank_0 : List UInt8 := [3, 61, 28, 42, 180, 1, 156, 162, 0, 97, 28, 4, 96, 62, 29, 42, 180, 1, 156, 162, 0, 79, 42]
abbrev dktX2_isRank_0 : List UInt8 := dkwX2_isRank_0 ++ dktX2_isRank_1
theorem dksX2_isRank_0 : cX2_isRank.data.toList.drop 0 = dktX2_isRank_0 := by decide +kernel
theorem dksX2_isRank_1 : cX2_isRank.data.toList.drop 23 = dktX2_isRank_1 := dk_seg dksX2_isRank_0 23 rfl rfl
theorem dksX2_isRank_2 : cX2_isRank.data.toList.drop 45 = dktX2_isRank_2 := dk_seg dksX2_isRank_1 22 rfl rfl
theorem dksX2_isRank_3 : cX2_isRank.data.toList.drop 69 = dktX2_isRank_3 := dk_seg dksX2_isRank_2 24 rfl rfl
theorem dksX2_isRank_4 : cX2_isRank.data.toList.drop 92 = dktX2_isRank_4 := dk_seg dksX2_isRank_3 23 rfl rfl
theorem dX2_isRank_0 : decode cX2_isRank 0 = .ok (.iconst 0, 1) := dk_3 (dk_at dksX2_isRank_0 0 rfl rfl)
theorem dX2_isRank_1 : decode cX2_isRank 1 = .ok (.istore_n 2, 1) := dk_61 (dk_at dksX2_isRank_0 1 rfl rfl)
theorem dX2_isRank_2 : decode cX2_isRank 2 = .ok (.iload_n 2, 1) := dk_28 (dk_at dksX2_isRank_0 2 rfl rfl)
theorem dX2_isRank_3 : decode cX2_isRank 3 = .ok (.aload_n 0, 1) := dk_42 (dk_at dksX2_isRank_0 3 rfl rfl)
theorem dX2_isRank_4 : decode cX2_isRank 4 = .ok (.getfield 412, 3) := dk_180 1 156 (dk_at dksX2_isRank_0 4 rfl rfl)
theorem dX2_isRank_7 : decode cX2_isRank 7 = .ok (.if_icmp .ge 97, 3) := dk_162 0 97 (dk_at dksX2_isRank_0 7 rfl rfl)
theorem dX2_isRank_10 : decode cX2_isRank 10 = .ok (.iload_n 2, 1) := dk_28 (dk_at dksX2_isRank_0 10 rfl rfl)
theorem dX2_isRank_11 : decode cX2_isRank 11 = .ok (.iconst 1, 1) := dk_4 (dk_at dksX2_isRank_0 11 rfl rfl)
theorem dX2_isRank_12 : decode cX2_isRank 12 = .ok (.iadd, 1) := dk_96 (dk_at dksX2_isRank_0 12 rfl rfl)
theorem dX2_isRank_13 : decode cX2_isRank 13 = .ok (.istore_n 3, 1) := dk_62 (dk_at dksX2_isRank_0 13 rfl rfl)
theorem dX2_isRank_14 : decode cX2_isRank 14 = .ok (.iload_n 3, 1) := dk_29 (dk_at dksX2_isRank_0 14 rfl rfl)
theorem dX2_isRank_15 : decode cX2_isRank 15 = .ok (.aload_n 0, 1) := dk_42 (dk_at dksX2_isRank_0 15 rfl rfl)
theorem dX2_isRank_16 : decode cX2_isRank 16 = .ok (.getfield 412, 3) := dk_180 1 156 (dk_at dksX2_isRank_0 16 rfl rfl)
theorem dX2_isRank_19 : decode cX2_isRank 19 = .ok (.if_icmp .ge 79, 3) := dk_162 0 79 (dk_at dksX2_isRank_0 19 rfl rfl)
theorem dX2_isRank_22 : decode cX2_isRank 22 = .ok (.aload_n 0, 1) := dk_42 (dk_at dksX2_isRank_0 22 rfl rfl)
theorem dX2_isRank_23 : decode cX2_isRank 23 = .ok (.getfield 61, 3) := dk_180 0 61 (dk_at dksX2_isRank_1 0 rfl rfl)
theorem dX2_isRank_26 : decode cX2_isRank 26 = .ok (.aload_n 0, 1) := dk_42 (dk_at dksX2_isRank_1 3 rfl rfl)
theorem dX2_isRank_27 : decode cX2_isRank 27 = .ok (.getfield 52, 3) := dk_180 0 52 (dk_at dksX2_isRank_1 4 rfl rfl)
theorem dX2_isRank_30 : decode cX2_isRank 30 = .ok (.bipush 6, 2) := dk_16 6 (dk_at dksX2_isRank_1 7 rfl rfl)
theorem dX2_isRank_32 : decode cX2_isRank 32 = .ok (.iload_n 1, 1) := dk_27 (dk_at dksX2_isRank_1 9 rfl rfl)
theorem dX2_isRank_33 : decode cX2_isRank 33 = .ok (.imul, 1) := dk_104 (dk_at dksX2_isRank_1 10 rfl rfl)
theorem dX2_isRank_34 : decode cX2_isRank 34 = .ok (.iload_n 2, 1) := dk_28 (dk_at dksX2_isRank_1 11 rfl rfl)
theorem dX2_isRank_35 : decode cX2_isRank 35 = .ok (.iadd, 1) := dk_96 (dk_at dksX2_isRank_1 12 rfl rfl)
theorem dX2_isRank_36 : decode cX2_isRank 36 = .ok (.iaload, 1) := dk_46 (dk_at dksX2_isRank_1 13 rfl rfl)
theorem dX2_isRank_37 : decode cX2_isRank 37 = .ok (.iaload, 1) := dk_46 (dk_at dksX2_isRank_1 14 rfl rfl)
theorem dX2_isRank_38 : decode cX2_isRank 38 = .ok (.istore 4, 2) := dk_54 4 (dk_at dksX2_isRank_1 15 rfl rfl)
theorem dX2_isRank_40 : decode cX2_isRank 40 = .ok (.aload_n 0, 1) := dk_42 (dk_at dksX2_isRank_1 17 rfl rfl)
theorem dX2_isRank_41 : decode cX2_isRank 41 = .ok (.getfield 61, 3) := dk_180 0 61 (dk_at dksX2_isRank_1 18 rfl rfl)
theorem dX2_isRank_44 : decode cX2_isRank 44 = .ok (.aload_n 0, 1) := dk_42 (dk_at dksX2_isRank_1 21 rfl rfl)
theorem dX2_isRank_45 : decode cX2_isRank 45 = .ok (.getfield 52, 3) := dk_180 0 52 (dk_at dksX2_isRank_2 0 rfl rfl)
theorem dX2_isRank_48 : decode cX2_isRank 48 = .ok (.bipush 6, 2) := dk_16 6 (dk_at dksX2_isRank_2 3 rfl rfl)
theorem dX2_isRank_50 : decode cX2_isRank 50 = .ok (.iload_n 1, 1) := dk_27 (dk_at dksX2_isRank_2 5 rfl rfl)
theorem dX2_isRank_51 : decode cX2_isRank 51 = .ok (.imul, 1) := dk_104 (dk_at dksX2_isRank_2 6 rfl rfl)
theorem dX2_isRank_52 : decode cX2_isRank 52 = .ok (.iload_n 3, 1) := dk_29 (dk_at dksX2_isRank_2 7 rfl rfl)
theorem dX2_isRank_53 : decode cX2_isRank 53 = .ok (.iadd, 1) := dk_96 (dk_at dksX2_isRank_2 8 rfl rfl)
theorem dX2_isRank_54 : decode cX2_isRank 54 = .ok (.iaload, 1) := dk_46 (dk_at dksX2_isRank_2 9 rfl rfl)
theorem dX2_isRank_55 : decode cX2_isRank 55 = .ok (.iaload, 1) := dk_46 (dk_at dksX2_isRank_2 10 rfl rfl)
theorem dX2_isRank_56 : decode cX2_isRank 56 = .ok (.istore 5, 2) := dk_54 5 (dk_at dksX2_isRank_2 11 rfl rfl)
theorem dX2_isRank_58 : decode cX2_isRank 58 = .ok (.aload_n 0, 1) := dk_42 (dk_at dksX2_isRank_2 13 rfl rfl)
theorem dX2_isRank_59 : decode cX2_isRank 59 = .ok (.getfield 43, 3) := dk_180 0 43 (dk_at dksX2_isRank_2 14 rfl rfl)
theorem dX2_isRank_62 : decode cX2_isRank 62 = .ok (.bipush 10, 2) := dk_16 10 (dk_at dksX2_isRank_2 17 rfl rfl)
theorem dX2_isRank_64 : decode cX2_isRank 64 = .ok (.iload 4, 2) := dk_21 4 (dk_at dksX2_isRank_2 19 rfl rfl)
theorem dX2_isRank_66 : decode cX2_isRank 66 = .ok (.imul, 1) := dk_104 (dk_at dksX2_isRank_2 21 rfl rfl)
theorem dX2_isRank_67 : decode cX2_isRank 67 = .ok (.iload 5, 2) := dk_21 5 (dk_at dksX2_isRank_2 22 rfl rfl)
theorem dX2_isRank_69 : decode cX2_isRank 69 = .ok (.iadd, 1) := dk_96 (dk_at dksX2_isRank_3 0 rfl rfl)
theorem dX2_isRank_70 : decode cX2_isRank 70 = .ok (.baload, 1) := dk_51 (dk_at dksX2_isRank_3 1 rfl rfl)
theorem dX2_isRank_71 : decode cX2_isRank 71 = .ok (.ifCond .ne 19, 3) := dk_154 0 19 (dk_at dksX2_isRank_3 2 rfl rfl)
theorem dX2_isRank_74 : decode cX2_isRank 74 = .ok (.aload_n 0, 1) := dk_42 (dk_at dksX2_isRank_3 5 rfl rfl)
theorem dX2_isRank_75 : decode cX2_isRank 75 = .ok (.getfield 43, 3) := dk_180 0 43 (dk_at dksX2_isRank_3 6 rfl rfl)
theorem dX2_isRank_78 : decode cX2_isRank 78 = .ok (.bipush 10, 2) := dk_16 10 (dk_at dksX2_isRank_3 9 rfl rfl)
theorem dX2_isRank_80 : decode cX2_isRank 80 = .ok (.iload 5, 2) := dk_21 5 (dk_at dksX2_isRank_3 11 rfl rfl)
theorem dX2_isRank_82 : decode cX2_isRank 82 = .ok (.imul, 1) := dk_104 (dk_at dksX2_isRank_3 13 rfl rfl)
theorem dX2_isRank_83 : decode cX2_isRank 83 = .ok (.iload 4, 2) := dk_21 4 (dk_at dksX2_isRank_3 14 rfl rfl)
theorem dX2_isRank_85 : decode cX2_isRank 85 = .ok (.iadd, 1) := dk_96 (dk_at dksX2_isRank_3 16 rfl rfl)
theorem dX2_isRank_86 : decode cX2_isRank 86 = .ok (.baload, 1) := dk_51 (dk_at dksX2_isRank_3 17 rfl rfl)
theorem dX2_isRank_87 : decode cX2_isRank 87 = .ok (.ifCond .ne 5, 3) := dk_154 0 5 (dk_at dksX2_isRank_3 18 rfl rfl)
theorem dX2_isRank_90 : decode cX2_isRank 90 = .ok (.iconst 0, 1) := dk_3 (dk_at dksX2_isRank_3 21 rfl rfl)
theorem dX2_isRank_91 : decode cX2_isRank 91 = .ok (.ireturn, 1) := dk_172 (dk_at dksX2_isRank_3 22 rfl rfl)
theorem dX2_isRank_92 : decode cX2_isRank 92 = .ok (.iinc 3 1, 3) := dk_132 3 1 (dk_at dksX2_isRank_4 0 rfl rfl)
theorem dX2_isRank_95 : decode cX2_isRank 95 = .ok (.goto (-81), 3) := dk_167 255 175 (dk_at dksX2_isRank_4 3 rfl rfl)
theorem dX2_isRank_98 : decode cX2_isRank 98 = .ok (.iinc 2 1, 3) := dk_132 2 1 (dk_at dksX2_isRank_4 6 rfl rfl)
theorem dX2_isRank_101 : decode cX2_isRank 101 = .ok (.goto (-99), 3) := dk_167 255 157 (dk_at dksX2_isRank_4 9 rfl rfl)
theorem dX2_isRank_104 : decode cX2_isRank 104 = .ok (.iconst 1, 1) := dk_4 (dk_at dksX2_isRank_4 12 rfl rfl)
theorem dX2_isRank_105 : decode cX2_isRank 105 = .ok (.ireturn, 1) := dk_172 (dk_at dksX2_isRank_4 13 rfl rfl)
abbrev MX2_isRank : jjM := (yX2_isRank, cX2_isRank, 6, (Option.some Jvm.ClassFile.FieldType.boolean))
theorem npX2_isRank : yX2_isRank.cls ≠ "java/lang/invoke/MethodHandle" ∧ yX2_isRank.cls ≠ "java/lang/invoke/VarHandle" ∧ (parseMethodDescriptor yX2_isRank.desc).map (fun d => d.parameters.length) = some 1 := by decide +kernel
abbrev cX2_nudges : ByteArray := prog_17_method_126_code
def yX2_nudges : MethodName := ⟨RX2, "nudges", "(IIIII)I"⟩
def dkwX2_nudges_10 : List UInt8 := [132, 8, 1, 167, 255, 134, 2, 172]
abbrev dktX2_nudges_10 : List UInt8 := dkwX2_nudges_10 ++ []
def dkwX2_nudges_9 : List UInt8 := [46, 4, 96, 79, 42, 180, 0, 67, 21, 7, 21, 11, 79, 132, 7, 1, 132, 10, 1, 167, 255, 191]
abbrev dktX2_nudges_9 : List UInt8 := dkwX2_nudges_9 ++ dktX2_nudges_10
def dkwX2_nudges_8 : List UInt8 := [180, 0, 70, 21, 11, 46, 155, 0, 6, 167, 0, 31, 42, 180, 0, 70, 21, 11, 42, 180, 0, 70, 21, 9]
abbrev dktX2_nudges_8 : List UInt8 := dkwX2_nudges_8 ++ dktX2_nudges_9
def dkwX2_nudges_7 : List UInt8 := [21, 10, 4, 96, 42, 180, 1, 156, 162, 0, 60, 42, 21, 9, 21, 10, 182, 1, 219, 54, 11, 42]
abbrev dktX2_nudges_7 : List UInt8 := dkwX2_nudges_7 ++ dktX2_nudges_8
def dkwX2_nudges_6 : List UInt8 := [21, 9, 21, 4, 21, 5, 182, 1, 216, 153, 0, 11, 42, 180, 0, 70, 21, 9, 46, 172, 3, 54, 10]
abbrev dktX2_nudges_6 : List UInt8 := dkwX2_nudges_6 ++ dktX2_nudges_7
def dkwX2_nudges_5 : List UInt8 := [162, 0, 121, 42, 180, 0, 67, 21, 8, 46, 54, 9, 42, 21, 9, 28, 29, 182, 1, 216, 153, 0, 24, 42]
abbrev dktX2_nudges_5 : List UInt8 := dkwX2_nudges_5 ++ dktX2_nudges_6
def dkwX2_nudges_4 : List UInt8 := [21, 6, 3, 79, 42, 180, 0, 67, 3, 21, 6, 79, 4, 54, 7, 3, 54, 8, 21, 8, 21, 7]
abbrev dktX2_nudges_4 : List UInt8 := dkwX2_nudges_4 ++ dktX2_nudges_5
def dkwX2_nudges_3 : List UInt8 := [180, 1, 162, 162, 0, 17, 42, 180, 0, 70, 21, 7, 2, 79, 132, 7, 1, 167, 255, 236, 42, 180, 0, 70]
abbrev dktX2_nudges_3 : List UInt8 := dkwX2_nudges_3 ++ dktX2_nudges_4
def dkwX2_nudges_2 : List UInt8 := [27, 21, 5, 182, 1, 210, 154, 0, 5, 2, 172, 42, 27, 182, 1, 213, 54, 6, 3, 54, 7, 21, 7, 42]
abbrev dktX2_nudges_2 : List UInt8 := dkwX2_nudges_2 ++ dktX2_nudges_3
def dkwX2_nudges_1 : List UInt8 := [29, 182, 1, 210, 154, 0, 5, 2, 172, 21, 4, 2, 159, 0, 23, 21, 4, 28, 159, 0, 15, 42, 21, 4]
abbrev dktX2_nudges_1 : List UInt8 := dkwX2_nudges_1 ++ dktX2_nudges_2
def dkwX2_nudges_0 : List UInt8 := [27, 184, 1, 54, 153, 0, 27, 42, 180, 0, 7, 16, 13, 27, 96, 46, 16, 6, 163, 0, 13, 42, 28, 27]
abbrev dktX2_nudges_0 : List UInt8 := dkwX2_nudges_0 ++ dktX2_nudges_1
theorem dksX2_nudges_0 : cX2_nudges.data.toList.drop 0 = dktX2_nudges_0 := by decide +kernel
theorem dksX2_nudges_1 : cX2_nudges.data.toList.drop 24 = dktX2_nudges_1 := dk_seg dksX2_nudges_0 24 rfl rfl
theorem dksX2_nudges_2 : cX2_nudges.data.toList.drop 48 = dktX2_nudges_2 := dk_seg dksX2_nudges_1 24 rfl rfl
theorem dksX2_nudges_3 : cX2_nudges.data.toList.drop 72 = dktX2_nudges_3 := dk_seg dksX2_nudges_2 24 rfl rfl
theorem dksX2_nudges_4 : cX2_nudges.data.toList.drop 96 = dktX2_nudges_4 := dk_seg dksX2_nudges_3 24 rfl rfl
theorem dksX2_nudges_5 : cX2_nudges.data.toList.drop 118 = dktX2_nudges_5 := dk_seg dksX2_nudges_4 22 rfl rfl
theorem dksX2_nudges_6 : cX2_nudges.data.toList.drop 142 = dktX2_nudges_6 := dk_seg dksX2_nudges_5 24 rfl rfl
theorem dksX2_nudges_7 : cX2_nudges.data.toList.drop 165 = dktX2_nudges_7 := dk_seg dksX2_nudges_6 23 rfl rfl
theorem dksX2_nudges_8 : cX2_nudges.data.toList.drop 187 = dktX2_nudges_8 := dk_seg dksX2_nudges_7 22 rfl rfl
theorem dksX2_nudges_9 : cX2_nudges.data.toList.drop 211 = dktX2_nudges_9 := dk_seg dksX2_nudges_8 24 rfl rfl
theorem dksX2_nudges_10 : cX2_nudges.data.toList.drop 233 = dktX2_nudges_10 := dk_seg dksX2_nudges_9 22 rfl rfl
theorem dX2_nudges_0 : decode cX2_nudges 0 = .ok (.iload_n 1, 1) := dk_27 (dk_at dksX2_nudges_0 0 rfl rfl)
theorem dX2_nudges_1 : decode cX2_nudges 1 = .ok (.invokestatic 310, 3) := dk_184 1 54 (dk_at dksX2_nudges_0 1 rfl rfl)
theorem dX2_nudges_4 : decode cX2_nudges 4 = .ok (.ifCond .eq 27, 3) := dk_153 0 27 (dk_at dksX2_nudges_0 4 rfl rfl)
theorem dX2_nudges_7 : decode cX2_nudges 7 = .ok (.aload_n 0, 1) := dk_42 (dk_at dksX2_nudges_0 7 rfl rfl)
theorem dX2_nudges_8 : decode cX2_nudges 8 = .ok (.getfield 7, 3) := dk_180 0 7 (dk_at dksX2_nudges_0 8 rfl rfl)
theorem dX2_nudges_11 : decode cX2_nudges 11 = .ok (.bipush 13, 2) := dk_16 13 (dk_at dksX2_nudges_0 11 rfl rfl)
theorem dX2_nudges_13 : decode cX2_nudges 13 = .ok (.iload_n 1, 1) := dk_27 (dk_at dksX2_nudges_0 13 rfl rfl)
theorem dX2_nudges_14 : decode cX2_nudges 14 = .ok (.iadd, 1) := dk_96 (dk_at dksX2_nudges_0 14 rfl rfl)
theorem dX2_nudges_15 : decode cX2_nudges 15 = .ok (.iaload, 1) := dk_46 (dk_at dksX2_nudges_0 15 rfl rfl)
theorem dX2_nudges_16 : decode cX2_nudges 16 = .ok (.bipush 6, 2) := dk_16 6 (dk_at dksX2_nudges_0 16 rfl rfl)
theorem dX2_nudges_18 : decode cX2_nudges 18 = .ok (.if_icmp .gt 13, 3) := dk_163 0 13 (dk_at dksX2_nudges_0 18 rfl rfl)
theorem dX2_nudges_21 : decode cX2_nudges 21 = .ok (.aload_n 0, 1) := dk_42 (dk_at dksX2_nudges_0 21 rfl rfl)
theorem dX2_nudges_22 : decode cX2_nudges 22 = .ok (.iload_n 2, 1) := dk_28 (dk_at dksX2_nudges_0 22 rfl rfl)
theorem dX2_nudges_23 : decode cX2_nudges 23 = .ok (.iload_n 1, 1) := dk_27 (dk_at dksX2_nudges_0 23 rfl rfl)
theorem dX2_nudges_24 : decode cX2_nudges 24 = .ok (.iload_n 3, 1) := dk_29 (dk_at dksX2_nudges_1 0 rfl rfl)
theorem dX2_nudges_25 : decode cX2_nudges 25 = .ok (.invokevirtual 466, 3) := dk_182 1 210 (dk_at dksX2_nudges_1 1 rfl rfl)
theorem dX2_nudges_28 : decode cX2_nudges 28 = .ok (.ifCond .ne 5, 3) := dk_154 0 5 (dk_at dksX2_nudges_1 4 rfl rfl)
theorem dX2_nudges_31 : decode cX2_nudges 31 = .ok (.iconst (-1), 1) := dk_2 (dk_at dksX2_nudges_1 7 rfl rfl)
theorem dX2_nudges_32 : decode cX2_nudges 32 = .ok (.ireturn, 1) := dk_172 (dk_at dksX2_nudges_1 8 rfl rfl)
theorem dX2_nudges_33 : decode cX2_nudges 33 = .ok (.iload 4, 2) := dk_21 4 (dk_at dksX2_nudges_1 9 rfl rfl)
theorem dX2_nudges_35 : decode cX2_nudges 35 = .ok (.iconst (-1), 1) := dk_2 (dk_at dksX2_nudges_1 11 rfl rfl)
theorem dX2_nudges_36 : decode cX2_nudges 36 = .ok (.if_icmp .eq 23, 3) := dk_159 0 23 (dk_at dksX2_nudges_1 12 rfl rfl)
theorem dX2_nudges_39 : decode cX2_nudges 39 = .ok (.iload 4, 2) := dk_21 4 (dk_at dksX2_nudges_1 15 rfl rfl)
theorem dX2_nudges_41 : decode cX2_nudges 41 = .ok (.iload_n 2, 1) := dk_28 (dk_at dksX2_nudges_1 17 rfl rfl)
theorem dX2_nudges_42 : decode cX2_nudges 42 = .ok (.if_icmp .eq 15, 3) := dk_159 0 15 (dk_at dksX2_nudges_1 18 rfl rfl)
theorem dX2_nudges_45 : decode cX2_nudges 45 = .ok (.aload_n 0, 1) := dk_42 (dk_at dksX2_nudges_1 21 rfl rfl)
theorem dX2_nudges_46 : decode cX2_nudges 46 = .ok (.iload 4, 2) := dk_21 4 (dk_at dksX2_nudges_1 22 rfl rfl)
theorem dX2_nudges_48 : decode cX2_nudges 48 = .ok (.iload_n 1, 1) := dk_27 (dk_at dksX2_nudges_2 0 rfl rfl)
theorem dX2_nudges_49 : decode cX2_nudges 49 = .ok (.iload 5, 2) := dk_21 5 (dk_at dksX2_nudges_2 1 rfl rfl)
theorem dX2_nudges_51 : decode cX2_nudges 51 = .ok (.invokevirtual 466, 3) := dk_182 1 210 (dk_at dksX2_nudges_2 3 rfl rfl)
theorem dX2_nudges_54 : decode cX2_nudges 54 = .ok (.ifCond .ne 5, 3) := dk_154 0 5 (dk_at dksX2_nudges_2 6 rfl rfl)
theorem dX2_nudges_57 : decode cX2_nudges 57 = .ok (.iconst (-1), 1) := dk_2 (dk_at dksX2_nudges_2 9 rfl rfl)
theorem dX2_nudges_58 : decode cX2_nudges 58 = .ok (.ireturn, 1) := dk_172 (dk_at dksX2_nudges_2 10 rfl rfl)
theorem dX2_nudges_59 : decode cX2_nudges 59 = .ok (.aload_n 0, 1) := dk_42 (dk_at dksX2_nudges_2 11 rfl rfl)
theorem dX2_nudges_60 : decode cX2_nudges 60 = .ok (.iload_n 1, 1) := dk_27 (dk_at dksX2_nudges_2 12 rfl rfl)
theorem dX2_nudges_61 : decode cX2_nudges 61 = .ok (.invokevirtual 469, 3) := dk_182 1 213 (dk_at dksX2_nudges_2 13 rfl rfl)
theorem dX2_nudges_64 : decode cX2_nudges 64 = .ok (.istore 6, 2) := dk_54 6 (dk_at dksX2_nudges_2 16 rfl rfl)
theorem dX2_nudges_66 : decode cX2_nudges 66 = .ok (.iconst 0, 1) := dk_3 (dk_at dksX2_nudges_2 18 rfl rfl)
theorem dX2_nudges_67 : decode cX2_nudges 67 = .ok (.istore 7, 2) := dk_54 7 (dk_at dksX2_nudges_2 19 rfl rfl)
theorem dX2_nudges_69 : decode cX2_nudges 69 = .ok (.iload 7, 2) := dk_21 7 (dk_at dksX2_nudges_2 21 rfl rfl)
theorem dX2_nudges_71 : decode cX2_nudges 71 = .ok (.aload_n 0, 1) := dk_42 (dk_at dksX2_nudges_2 23 rfl rfl)
theorem dX2_nudges_72 : decode cX2_nudges 72 = .ok (.getfield 418, 3) := dk_180 1 162 (dk_at dksX2_nudges_3 0 rfl rfl)
theorem dX2_nudges_75 : decode cX2_nudges 75 = .ok (.if_icmp .ge 17, 3) := dk_162 0 17 (dk_at dksX2_nudges_3 3 rfl rfl)
theorem dX2_nudges_78 : decode cX2_nudges 78 = .ok (.aload_n 0, 1) := dk_42 (dk_at dksX2_nudges_3 6 rfl rfl)
theorem dX2_nudges_79 : decode cX2_nudges 79 = .ok (.getfield 70, 3) := dk_180 0 70 (dk_at dksX2_nudges_3 7 rfl rfl)
theorem dX2_nudges_82 : decode cX2_nudges 82 = .ok (.iload 7, 2) := dk_21 7 (dk_at dksX2_nudges_3 10 rfl rfl)
theorem dX2_nudges_84 : decode cX2_nudges 84 = .ok (.iconst (-1), 1) := dk_2 (dk_at dksX2_nudges_3 12 rfl rfl)
theorem dX2_nudges_85 : decode cX2_nudges 85 = .ok (.iastore, 1) := dk_79 (dk_at dksX2_nudges_3 13 rfl rfl)
theorem dX2_nudges_86 : decode cX2_nudges 86 = .ok (.iinc 7 1, 3) := dk_132 7 1 (dk_at dksX2_nudges_3 14 rfl rfl)
theorem dX2_nudges_89 : decode cX2_nudges 89 = .ok (.goto (-20), 3) := dk_167 255 236 (dk_at dksX2_nudges_3 17 rfl rfl)
theorem dX2_nudges_92 : decode cX2_nudges 92 = .ok (.aload_n 0, 1) := dk_42 (dk_at dksX2_nudges_3 20 rfl rfl)
theorem dX2_nudges_93 : decode cX2_nudges 93 = .ok (.getfield 70, 3) := dk_180 0 70 (dk_at dksX2_nudges_3 21 rfl rfl)
theorem dX2_nudges_96 : decode cX2_nudges 96 = .ok (.iload 6, 2) := dk_21 6 (dk_at dksX2_nudges_4 0 rfl rfl)
theorem dX2_nudges_98 : decode cX2_nudges 98 = .ok (.iconst 0, 1) := dk_3 (dk_at dksX2_nudges_4 2 rfl rfl)
theorem dX2_nudges_99 : decode cX2_nudges 99 = .ok (.iastore, 1) := dk_79 (dk_at dksX2_nudges_4 3 rfl rfl)
theorem dX2_nudges_100 : decode cX2_nudges 100 = .ok (.aload_n 0, 1) := dk_42 (dk_at dksX2_nudges_4 4 rfl rfl)
theorem dX2_nudges_101 : decode cX2_nudges 101 = .ok (.getfield 67, 3) := dk_180 0 67 (dk_at dksX2_nudges_4 5 rfl rfl)
theorem dX2_nudges_104 : decode cX2_nudges 104 = .ok (.iconst 0, 1) := dk_3 (dk_at dksX2_nudges_4 8 rfl rfl)
theorem dX2_nudges_105 : decode cX2_nudges 105 = .ok (.iload 6, 2) := dk_21 6 (dk_at dksX2_nudges_4 9 rfl rfl)
theorem dX2_nudges_107 : decode cX2_nudges 107 = .ok (.iastore, 1) := dk_79 (dk_at dksX2_nudges_4 11 rfl rfl)
theorem dX2_nudges_108 : decode cX2_nudges 108 = .ok (.iconst 1, 1) := dk_4 (dk_at dksX2_nudges_4 12 rfl rfl)
theorem dX2_nudges_109 : decode cX2_nudges 109 = .ok (.istore 7, 2) := dk_54 7 (dk_at dksX2_nudges_4 13 rfl rfl)
theorem dX2_nudges_111 : decode cX2_nudges 111 = .ok (.iconst 0, 1) := dk_3 (dk_at dksX2_nudges_4 15 rfl rfl)
theorem dX2_nudges_112 : decode cX2_nudges 112 = .ok (.istore 8, 2) := dk_54 8 (dk_at dksX2_nudges_4 16 rfl rfl)
theorem dX2_nudges_114 : decode cX2_nudges 114 = .ok (.iload 8, 2) := dk_21 8 (dk_at dksX2_nudges_4 18 rfl rfl)
theorem dX2_nudges_116 : decode cX2_nudges 116 = .ok (.iload 7, 2) := dk_21 7 (dk_at dksX2_nudges_4 20 rfl rfl)
theorem dX2_nudges_118 : decode cX2_nudges 118 = .ok (.if_icmp .ge 121, 3) := dk_162 0 121 (dk_at dksX2_nudges_5 0 rfl rfl)
theorem dX2_nudges_121 : decode cX2_nudges 121 = .ok (.aload_n 0, 1) := dk_42 (dk_at dksX2_nudges_5 3 rfl rfl)
theorem dX2_nudges_122 : decode cX2_nudges 122 = .ok (.getfield 67, 3) := dk_180 0 67 (dk_at dksX2_nudges_5 4 rfl rfl)
theorem dX2_nudges_125 : decode cX2_nudges 125 = .ok (.iload 8, 2) := dk_21 8 (dk_at dksX2_nudges_5 7 rfl rfl)
theorem dX2_nudges_127 : decode cX2_nudges 127 = .ok (.iaload, 1) := dk_46 (dk_at dksX2_nudges_5 9 rfl rfl)
theorem dX2_nudges_128 : decode cX2_nudges 128 = .ok (.istore 9, 2) := dk_54 9 (dk_at dksX2_nudges_5 10 rfl rfl)
theorem dX2_nudges_130 : decode cX2_nudges 130 = .ok (.aload_n 0, 1) := dk_42 (dk_at dksX2_nudges_5 12 rfl rfl)
theorem dX2_nudges_131 : decode cX2_nudges 131 = .ok (.iload 9, 2) := dk_21 9 (dk_at dksX2_nudges_5 13 rfl rfl)
theorem dX2_nudges_133 : decode cX2_nudges 133 = .ok (.iload_n 2, 1) := dk_28 (dk_at dksX2_nudges_5 15 rfl rfl)
theorem dX2_nudges_134 : decode cX2_nudges 134 = .ok (.iload_n 3, 1) := dk_29 (dk_at dksX2_nudges_5 16 rfl rfl)
theorem dX2_nudges_135 : decode cX2_nudges 135 = .ok (.invokevirtual 472, 3) := dk_182 1 216 (dk_at dksX2_nudges_5 17 rfl rfl)
theorem dX2_nudges_138 : decode cX2_nudges 138 = .ok (.ifCond .eq 24, 3) := dk_153 0 24 (dk_at dksX2_nudges_5 20 rfl rfl)
theorem dX2_nudges_141 : decode cX2_nudges 141 = .ok (.aload_n 0, 1) := dk_42 (dk_at dksX2_nudges_5 23 rfl rfl)
theorem dX2_nudges_142 : decode cX2_nudges 142 = .ok (.iload 9, 2) := dk_21 9 (dk_at dksX2_nudges_6 0 rfl rfl)
theorem dX2_nudges_144 : decode cX2_nudges 144 = .ok (.iload 4, 2) := dk_21 4 (dk_at dksX2_nudges_6 2 rfl rfl)
theorem dX2_nudges_146 : decode cX2_nudges 146 = .ok (.iload 5, 2) := dk_21 5 (dk_at dksX2_nudges_6 4 rfl rfl)
theorem dX2_nudges_148 : decode cX2_nudges 148 = .ok (.invokevirtual 472, 3) := dk_182 1 216 (dk_at dksX2_nudges_6 6 rfl rfl)
theorem dX2_nudges_151 : decode cX2_nudges 151 = .ok (.ifCond .eq 11, 3) := dk_153 0 11 (dk_at dksX2_nudges_6 9 rfl rfl)
theorem dX2_nudges_154 : decode cX2_nudges 154 = .ok (.aload_n 0, 1) := dk_42 (dk_at dksX2_nudges_6 12 rfl rfl)
theorem dX2_nudges_155 : decode cX2_nudges 155 = .ok (.getfield 70, 3) := dk_180 0 70 (dk_at dksX2_nudges_6 13 rfl rfl)
theorem dX2_nudges_158 : decode cX2_nudges 158 = .ok (.iload 9, 2) := dk_21 9 (dk_at dksX2_nudges_6 16 rfl rfl)
theorem dX2_nudges_160 : decode cX2_nudges 160 = .ok (.iaload, 1) := dk_46 (dk_at dksX2_nudges_6 18 rfl rfl)
theorem dX2_nudges_161 : decode cX2_nudges 161 = .ok (.ireturn, 1) := dk_172 (dk_at dksX2_nudges_6 19 rfl rfl)
theorem dX2_nudges_162 : decode cX2_nudges 162 = .ok (.iconst 0, 1) := dk_3 (dk_at dksX2_nudges_6 20 rfl rfl)
theorem dX2_nudges_163 : decode cX2_nudges 163 = .ok (.istore 10, 2) := dk_54 10 (dk_at dksX2_nudges_6 21 rfl rfl)
theorem dX2_nudges_165 : decode cX2_nudges 165 = .ok (.iload 10, 2) := dk_21 10 (dk_at dksX2_nudges_7 0 rfl rfl)
theorem dX2_nudges_167 : decode cX2_nudges 167 = .ok (.iconst 1, 1) := dk_4 (dk_at dksX2_nudges_7 2 rfl rfl)
theorem dX2_nudges_168 : decode cX2_nudges 168 = .ok (.iadd, 1) := dk_96 (dk_at dksX2_nudges_7 3 rfl rfl)
theorem dX2_nudges_169 : decode cX2_nudges 169 = .ok (.aload_n 0, 1) := dk_42 (dk_at dksX2_nudges_7 4 rfl rfl)
theorem dX2_nudges_170 : decode cX2_nudges 170 = .ok (.getfield 412, 3) := dk_180 1 156 (dk_at dksX2_nudges_7 5 rfl rfl)
theorem dX2_nudges_173 : decode cX2_nudges 173 = .ok (.if_icmp .ge 60, 3) := dk_162 0 60 (dk_at dksX2_nudges_7 8 rfl rfl)
theorem dX2_nudges_176 : decode cX2_nudges 176 = .ok (.aload_n 0, 1) := dk_42 (dk_at dksX2_nudges_7 11 rfl rfl)
theorem dX2_nudges_177 : decode cX2_nudges 177 = .ok (.iload 9, 2) := dk_21 9 (dk_at dksX2_nudges_7 12 rfl rfl)
theorem dX2_nudges_179 : decode cX2_nudges 179 = .ok (.iload 10, 2) := dk_21 10 (dk_at dksX2_nudges_7 14 rfl rfl)
theorem dX2_nudges_181 : decode cX2_nudges 181 = .ok (.invokevirtual 475, 3) := dk_182 1 219 (dk_at dksX2_nudges_7 16 rfl rfl)
theorem dX2_nudges_184 : decode cX2_nudges 184 = .ok (.istore 11, 2) := dk_54 11 (dk_at dksX2_nudges_7 19 rfl rfl)
theorem dX2_nudges_186 : decode cX2_nudges 186 = .ok (.aload_n 0, 1) := dk_42 (dk_at dksX2_nudges_7 21 rfl rfl)
theorem dX2_nudges_187 : decode cX2_nudges 187 = .ok (.getfield 70, 3) := dk_180 0 70 (dk_at dksX2_nudges_8 0 rfl rfl)
theorem dX2_nudges_190 : decode cX2_nudges 190 = .ok (.iload 11, 2) := dk_21 11 (dk_at dksX2_nudges_8 3 rfl rfl)
theorem dX2_nudges_192 : decode cX2_nudges 192 = .ok (.iaload, 1) := dk_46 (dk_at dksX2_nudges_8 5 rfl rfl)
theorem dX2_nudges_193 : decode cX2_nudges 193 = .ok (.ifCond .lt 6, 3) := dk_155 0 6 (dk_at dksX2_nudges_8 6 rfl rfl)
theorem dX2_nudges_196 : decode cX2_nudges 196 = .ok (.goto 31, 3) := dk_167 0 31 (dk_at dksX2_nudges_8 9 rfl rfl)
theorem dX2_nudges_199 : decode cX2_nudges 199 = .ok (.aload_n 0, 1) := dk_42 (dk_at dksX2_nudges_8 12 rfl rfl)
theorem dX2_nudges_200 : decode cX2_nudges 200 = .ok (.getfield 70, 3) := dk_180 0 70 (dk_at dksX2_nudges_8 13 rfl rfl)
theorem dX2_nudges_203 : decode cX2_nudges 203 = .ok (.iload 11, 2) := dk_21 11 (dk_at dksX2_nudges_8 16 rfl rfl)
theorem dX2_nudges_205 : decode cX2_nudges 205 = .ok (.aload_n 0, 1) := dk_42 (dk_at dksX2_nudges_8 18 rfl rfl)
theorem dX2_nudges_206 : decode cX2_nudges 206 = .ok (.getfield 70, 3) := dk_180 0 70 (dk_at dksX2_nudges_8 19 rfl rfl)
theorem dX2_nudges_209 : decode cX2_nudges 209 = .ok (.iload 9, 2) := dk_21 9 (dk_at dksX2_nudges_8 22 rfl rfl)
theorem dX2_nudges_211 : decode cX2_nudges 211 = .ok (.iaload, 1) := dk_46 (dk_at dksX2_nudges_9 0 rfl rfl)
theorem dX2_nudges_212 : decode cX2_nudges 212 = .ok (.iconst 1, 1) := dk_4 (dk_at dksX2_nudges_9 1 rfl rfl)
theorem dX2_nudges_213 : decode cX2_nudges 213 = .ok (.iadd, 1) := dk_96 (dk_at dksX2_nudges_9 2 rfl rfl)
theorem dX2_nudges_214 : decode cX2_nudges 214 = .ok (.iastore, 1) := dk_79 (dk_at dksX2_nudges_9 3 rfl rfl)
theorem dX2_nudges_215 : decode cX2_nudges 215 = .ok (.aload_n 0, 1) := dk_42 (dk_at dksX2_nudges_9 4 rfl rfl)
theorem dX2_nudges_216 : decode cX2_nudges 216 = .ok (.getfield 67, 3) := dk_180 0 67 (dk_at dksX2_nudges_9 5 rfl rfl)
theorem dX2_nudges_219 : decode cX2_nudges 219 = .ok (.iload 7, 2) := dk_21 7 (dk_at dksX2_nudges_9 8 rfl rfl)
theorem dX2_nudges_221 : decode cX2_nudges 221 = .ok (.iload 11, 2) := dk_21 11 (dk_at dksX2_nudges_9 10 rfl rfl)
theorem dX2_nudges_223 : decode cX2_nudges 223 = .ok (.iastore, 1) := dk_79 (dk_at dksX2_nudges_9 12 rfl rfl)
theorem dX2_nudges_224 : decode cX2_nudges 224 = .ok (.iinc 7 1, 3) := dk_132 7 1 (dk_at dksX2_nudges_9 13 rfl rfl)
theorem dX2_nudges_227 : decode cX2_nudges 227 = .ok (.iinc 10 1, 3) := dk_132 10 1 (dk_at dksX2_nudges_9 16 rfl rfl)
theorem dX2_nudges_230 : decode cX2_nudges 230 = .ok (.goto (-65), 3) := dk_167 255 191 (dk_at dksX2_nudges_9 19 rfl rfl)
theorem dX2_nudges_233 : decode cX2_nudges 233 = .ok (.iinc 8 1, 3) := dk_132 8 1 (dk_at dksX2_nudges_10 0 rfl rfl)
theorem dX2_nudges_236 : decode cX2_nudges 236 = .ok (.goto (-122), 3) := dk_167 255 134 (dk_at dksX2_nudges_10 3 rfl rfl)
theorem dX2_nudges_239 : decode cX2_nudges 239 = .ok (.iconst (-1), 1) := dk_2 (dk_at dksX2_nudges_10 6 rfl rfl)
theorem dX2_nudges_240 : decode cX2_nudges 240 = .ok (.ireturn, 1) := dk_172 (dk_at dksX2_nudges_10 7 rfl rfl)
abbrev MX2_nudges : jjM := (yX2_nudges, cX2_nudges, 12, (Option.some Jvm.ClassFile.FieldType.int))
theorem npX2_nudges : yX2_nudges.cls ≠ "java/lang/invoke/MethodHandle" ∧ yX2_nudges.cls ≠ "java/lang/invoke/VarHandle" ∧ (parseMethodDescriptor yX2_nudges.desc).map (fun d => d.parameters.length) = some 5 := by decide +kernel
abbrev cX2_isThere : ByteArray := prog_17_method_125_code
def yX2_isThere : MethodName := ⟨RX2, "isThere", "(III)Z"⟩
def dkwX2_isThere_1 : List UInt8 := [16, 13, 28, 96, 46, 4, 100, 184, 0, 89, 153, 0, 7, 4, 167, 0, 4, 3, 172]
abbrev dktX2_isThere_1 : List UInt8 := dkwX2_isThere_1 ++ []
def dkwX2_isThere_0 : List UInt8 := [42, 27, 182, 1, 126, 153, 0, 36, 42, 27, 8, 182, 0, 97, 28, 160, 0, 26, 29, 3, 42, 180, 0, 7]
abbrev dktX2_isThere_0 : List UInt8 := dkwX2_isThere_0 ++ dktX2_isThere_1
theorem dksX2_isThere_0 : cX2_isThere.data.toList.drop 0 = dktX2_isThere_0 := by decide +kernel
theorem dksX2_isThere_1 : cX2_isThere.data.toList.drop 24 = dktX2_isThere_1 := dk_seg dksX2_isThere_0 24 rfl rfl
theorem dX2_isThere_0 : decode cX2_isThere 0 = .ok (.aload_n 0, 1) := dk_42 (dk_at dksX2_isThere_0 0 rfl rfl)
theorem dX2_isThere_1 : decode cX2_isThere 1 = .ok (.iload_n 1, 1) := dk_27 (dk_at dksX2_isThere_0 1 rfl rfl)
theorem dX2_isThere_2 : decode cX2_isThere 2 = .ok (.invokevirtual 382, 3) := dk_182 1 126 (dk_at dksX2_isThere_0 2 rfl rfl)
theorem dX2_isThere_5 : decode cX2_isThere 5 = .ok (.ifCond .eq 36, 3) := dk_153 0 36 (dk_at dksX2_isThere_0 5 rfl rfl)
theorem dX2_isThere_8 : decode cX2_isThere 8 = .ok (.aload_n 0, 1) := dk_42 (dk_at dksX2_isThere_0 8 rfl rfl)
theorem dX2_isThere_9 : decode cX2_isThere 9 = .ok (.iload_n 1, 1) := dk_27 (dk_at dksX2_isThere_0 9 rfl rfl)
theorem dX2_isThere_10 : decode cX2_isThere 10 = .ok (.iconst 5, 1) := dk_8 (dk_at dksX2_isThere_0 10 rfl rfl)
theorem dX2_isThere_11 : decode cX2_isThere 11 = .ok (.invokevirtual 97, 3) := dk_182 0 97 (dk_at dksX2_isThere_0 11 rfl rfl)
theorem dX2_isThere_14 : decode cX2_isThere 14 = .ok (.iload_n 2, 1) := dk_28 (dk_at dksX2_isThere_0 14 rfl rfl)
theorem dX2_isThere_15 : decode cX2_isThere 15 = .ok (.if_icmp .ne 26, 3) := dk_160 0 26 (dk_at dksX2_isThere_0 15 rfl rfl)
theorem dX2_isThere_18 : decode cX2_isThere 18 = .ok (.iload_n 3, 1) := dk_29 (dk_at dksX2_isThere_0 18 rfl rfl)
theorem dX2_isThere_19 : decode cX2_isThere 19 = .ok (.iconst 0, 1) := dk_3 (dk_at dksX2_isThere_0 19 rfl rfl)
theorem dX2_isThere_20 : decode cX2_isThere 20 = .ok (.aload_n 0, 1) := dk_42 (dk_at dksX2_isThere_0 20 rfl rfl)
theorem dX2_isThere_21 : decode cX2_isThere 21 = .ok (.getfield 7, 3) := dk_180 0 7 (dk_at dksX2_isThere_0 21 rfl rfl)
theorem dX2_isThere_24 : decode cX2_isThere 24 = .ok (.bipush 13, 2) := dk_16 13 (dk_at dksX2_isThere_1 0 rfl rfl)
theorem dX2_isThere_26 : decode cX2_isThere 26 = .ok (.iload_n 2, 1) := dk_28 (dk_at dksX2_isThere_1 2 rfl rfl)
theorem dX2_isThere_27 : decode cX2_isThere 27 = .ok (.iadd, 1) := dk_96 (dk_at dksX2_isThere_1 3 rfl rfl)
theorem dX2_isThere_28 : decode cX2_isThere 28 = .ok (.iaload, 1) := dk_46 (dk_at dksX2_isThere_1 4 rfl rfl)
theorem dX2_isThere_29 : decode cX2_isThere 29 = .ok (.iconst 1, 1) := dk_4 (dk_at dksX2_isThere_1 5 rfl rfl)
theorem dX2_isThere_30 : decode cX2_isThere 30 = .ok (.isub, 1) := dk_100 (dk_at dksX2_isThere_1 6 rfl rfl)
theorem dX2_isThere_31 : decode cX2_isThere 31 = .ok (.invokestatic 89, 3) := dk_184 0 89 (dk_at dksX2_isThere_1 7 rfl rfl)
theorem dX2_isThere_34 : decode cX2_isThere 34 = .ok (.ifCond .eq 7, 3) := dk_153 0 7 (dk_at dksX2_isThere_1 10 rfl rfl)
theorem dX2_isThere_37 : decode cX2_isThere 37 = .ok (.iconst 1, 1) := dk_4 (dk_at dksX2_isThere_1 13 rfl rfl)
theorem dX2_isThere_38 : decode cX2_isThere 38 = .ok (.goto 4, 3) := dk_167 0 4 (dk_at dksX2_isThere_1 14 rfl rfl)
theorem dX2_isThere_41 : decode cX2_isThere 41 = .ok (.iconst 0, 1) := dk_3 (dk_at dksX2_isThere_1 17 rfl rfl)
theorem dX2_isThere_42 : decode cX2_isThere 42 = .ok (.ireturn, 1) := dk_172 (dk_at dksX2_isThere_1 18 rfl rfl)
abbrev MX2_isThere : jjM := (yX2_isThere, cX2_isThere, 4, (Option.some Jvm.ClassFile.FieldType.boolean))
theorem npX2_isThere : yX2_isThere.cls ≠ "java/lang/invoke/MethodHandle" ∧ yX2_isThere.cls ≠ "java/lang/invoke/VarHandle" ∧ (parseMethodDescriptor yX2_isThere.desc).map (fun d => d.parameters.length) = some 3 := by decide +kernel
abbrev cX2_layShelf : ByteArray := prog_17_method_122_code
def yX2_layShelf : MethodName := ⟨RX2, "layShelf", "(I)I"⟩
def dkwX2_layShelf_4 : List UInt8 := [172]
abbrev dktX2_layShelf_4 : List UInt8 := dkwX2_layShelf_4 ++ []
def dkwX2_layShelf_3 : List UInt8 := [132, 4, 1, 167, 255, 237, 42, 180, 0, 64, 29, 21, 4, 79, 132, 3, 1, 167, 255, 212, 42, 182, 1, 177]
abbrev dktX2_layShelf_3 : List UInt8 := dkwX2_layShelf_3 ++ dktX2_layShelf_4
def dkwX2_layShelf_2 : List UInt8 := [162, 0, 42, 3, 54, 4, 42, 180, 0, 61, 21, 4, 46, 42, 27, 29, 182, 0, 101, 159, 0, 9]
abbrev dktX2_layShelf_2 : List UInt8 := dkwX2_layShelf_2 ++ dktX2_layShelf_3
def dkwX2_layShelf_1 : List UInt8 := [182, 0, 101, 120, 128, 61, 132, 3, 1, 167, 255, 229, 42, 28, 182, 1, 195, 3, 62, 29, 42, 180, 1, 156]
abbrev dktX2_layShelf_1 : List UInt8 := dkwX2_layShelf_1 ++ dktX2_layShelf_2
def dkwX2_layShelf_0 : List UInt8 := [3, 61, 3, 62, 29, 42, 180, 0, 7, 16, 13, 27, 96, 46, 162, 0, 20, 28, 4, 42, 27, 29]
abbrev dktX2_layShelf_0 : List UInt8 := dkwX2_layShelf_0 ++ dktX2_layShelf_1
theorem dksX2_layShelf_0 : cX2_layShelf.data.toList.drop 0 = dktX2_layShelf_0 := by decide +kernel
theorem dksX2_layShelf_1 : cX2_layShelf.data.toList.drop 22 = dktX2_layShelf_1 := dk_seg dksX2_layShelf_0 22 rfl rfl
theorem dksX2_layShelf_2 : cX2_layShelf.data.toList.drop 46 = dktX2_layShelf_2 := dk_seg dksX2_layShelf_1 24 rfl rfl
theorem dksX2_layShelf_3 : cX2_layShelf.data.toList.drop 68 = dktX2_layShelf_3 := dk_seg dksX2_layShelf_2 22 rfl rfl
theorem dksX2_layShelf_4 : cX2_layShelf.data.toList.drop 92 = dktX2_layShelf_4 := dk_seg dksX2_layShelf_3 24 rfl rfl
theorem dX2_layShelf_0 : decode cX2_layShelf 0 = .ok (.iconst 0, 1) := dk_3 (dk_at dksX2_layShelf_0 0 rfl rfl)
theorem dX2_layShelf_1 : decode cX2_layShelf 1 = .ok (.istore_n 2, 1) := dk_61 (dk_at dksX2_layShelf_0 1 rfl rfl)
theorem dX2_layShelf_2 : decode cX2_layShelf 2 = .ok (.iconst 0, 1) := dk_3 (dk_at dksX2_layShelf_0 2 rfl rfl)
theorem dX2_layShelf_3 : decode cX2_layShelf 3 = .ok (.istore_n 3, 1) := dk_62 (dk_at dksX2_layShelf_0 3 rfl rfl)
theorem dX2_layShelf_4 : decode cX2_layShelf 4 = .ok (.iload_n 3, 1) := dk_29 (dk_at dksX2_layShelf_0 4 rfl rfl)
theorem dX2_layShelf_5 : decode cX2_layShelf 5 = .ok (.aload_n 0, 1) := dk_42 (dk_at dksX2_layShelf_0 5 rfl rfl)
theorem dX2_layShelf_6 : decode cX2_layShelf 6 = .ok (.getfield 7, 3) := dk_180 0 7 (dk_at dksX2_layShelf_0 6 rfl rfl)
theorem dX2_layShelf_9 : decode cX2_layShelf 9 = .ok (.bipush 13, 2) := dk_16 13 (dk_at dksX2_layShelf_0 9 rfl rfl)
theorem dX2_layShelf_11 : decode cX2_layShelf 11 = .ok (.iload_n 1, 1) := dk_27 (dk_at dksX2_layShelf_0 11 rfl rfl)
theorem dX2_layShelf_12 : decode cX2_layShelf 12 = .ok (.iadd, 1) := dk_96 (dk_at dksX2_layShelf_0 12 rfl rfl)
theorem dX2_layShelf_13 : decode cX2_layShelf 13 = .ok (.iaload, 1) := dk_46 (dk_at dksX2_layShelf_0 13 rfl rfl)
theorem dX2_layShelf_14 : decode cX2_layShelf 14 = .ok (.if_icmp .ge 20, 3) := dk_162 0 20 (dk_at dksX2_layShelf_0 14 rfl rfl)
theorem dX2_layShelf_17 : decode cX2_layShelf 17 = .ok (.iload_n 2, 1) := dk_28 (dk_at dksX2_layShelf_0 17 rfl rfl)
theorem dX2_layShelf_18 : decode cX2_layShelf 18 = .ok (.iconst 1, 1) := dk_4 (dk_at dksX2_layShelf_0 18 rfl rfl)
theorem dX2_layShelf_19 : decode cX2_layShelf 19 = .ok (.aload_n 0, 1) := dk_42 (dk_at dksX2_layShelf_0 19 rfl rfl)
theorem dX2_layShelf_20 : decode cX2_layShelf 20 = .ok (.iload_n 1, 1) := dk_27 (dk_at dksX2_layShelf_0 20 rfl rfl)
theorem dX2_layShelf_21 : decode cX2_layShelf 21 = .ok (.iload_n 3, 1) := dk_29 (dk_at dksX2_layShelf_0 21 rfl rfl)
theorem dX2_layShelf_22 : decode cX2_layShelf 22 = .ok (.invokevirtual 101, 3) := dk_182 0 101 (dk_at dksX2_layShelf_1 0 rfl rfl)
theorem dX2_layShelf_25 : decode cX2_layShelf 25 = .ok (.ishl, 1) := dk_120 (dk_at dksX2_layShelf_1 3 rfl rfl)
theorem dX2_layShelf_26 : decode cX2_layShelf 26 = .ok (.ior, 1) := dk_128 (dk_at dksX2_layShelf_1 4 rfl rfl)
theorem dX2_layShelf_27 : decode cX2_layShelf 27 = .ok (.istore_n 2, 1) := dk_61 (dk_at dksX2_layShelf_1 5 rfl rfl)
theorem dX2_layShelf_28 : decode cX2_layShelf 28 = .ok (.iinc 3 1, 3) := dk_132 3 1 (dk_at dksX2_layShelf_1 6 rfl rfl)
theorem dX2_layShelf_31 : decode cX2_layShelf 31 = .ok (.goto (-27), 3) := dk_167 255 229 (dk_at dksX2_layShelf_1 9 rfl rfl)
theorem dX2_layShelf_34 : decode cX2_layShelf 34 = .ok (.aload_n 0, 1) := dk_42 (dk_at dksX2_layShelf_1 12 rfl rfl)
theorem dX2_layShelf_35 : decode cX2_layShelf 35 = .ok (.iload_n 2, 1) := dk_28 (dk_at dksX2_layShelf_1 13 rfl rfl)
theorem dX2_layShelf_36 : decode cX2_layShelf 36 = .ok (.invokevirtual 451, 3) := dk_182 1 195 (dk_at dksX2_layShelf_1 14 rfl rfl)
theorem dX2_layShelf_39 : decode cX2_layShelf 39 = .ok (.iconst 0, 1) := dk_3 (dk_at dksX2_layShelf_1 17 rfl rfl)
theorem dX2_layShelf_40 : decode cX2_layShelf 40 = .ok (.istore_n 3, 1) := dk_62 (dk_at dksX2_layShelf_1 18 rfl rfl)
theorem dX2_layShelf_41 : decode cX2_layShelf 41 = .ok (.iload_n 3, 1) := dk_29 (dk_at dksX2_layShelf_1 19 rfl rfl)
theorem dX2_layShelf_42 : decode cX2_layShelf 42 = .ok (.aload_n 0, 1) := dk_42 (dk_at dksX2_layShelf_1 20 rfl rfl)
theorem dX2_layShelf_43 : decode cX2_layShelf 43 = .ok (.getfield 412, 3) := dk_180 1 156 (dk_at dksX2_layShelf_1 21 rfl rfl)
theorem dX2_layShelf_46 : decode cX2_layShelf 46 = .ok (.if_icmp .ge 42, 3) := dk_162 0 42 (dk_at dksX2_layShelf_2 0 rfl rfl)
theorem dX2_layShelf_49 : decode cX2_layShelf 49 = .ok (.iconst 0, 1) := dk_3 (dk_at dksX2_layShelf_2 3 rfl rfl)
theorem dX2_layShelf_50 : decode cX2_layShelf 50 = .ok (.istore 4, 2) := dk_54 4 (dk_at dksX2_layShelf_2 4 rfl rfl)
theorem dX2_layShelf_52 : decode cX2_layShelf 52 = .ok (.aload_n 0, 1) := dk_42 (dk_at dksX2_layShelf_2 6 rfl rfl)
theorem dX2_layShelf_53 : decode cX2_layShelf 53 = .ok (.getfield 61, 3) := dk_180 0 61 (dk_at dksX2_layShelf_2 7 rfl rfl)
theorem dX2_layShelf_56 : decode cX2_layShelf 56 = .ok (.iload 4, 2) := dk_21 4 (dk_at dksX2_layShelf_2 10 rfl rfl)
theorem dX2_layShelf_58 : decode cX2_layShelf 58 = .ok (.iaload, 1) := dk_46 (dk_at dksX2_layShelf_2 12 rfl rfl)
theorem dX2_layShelf_59 : decode cX2_layShelf 59 = .ok (.aload_n 0, 1) := dk_42 (dk_at dksX2_layShelf_2 13 rfl rfl)
theorem dX2_layShelf_60 : decode cX2_layShelf 60 = .ok (.iload_n 1, 1) := dk_27 (dk_at dksX2_layShelf_2 14 rfl rfl)
theorem dX2_layShelf_61 : decode cX2_layShelf 61 = .ok (.iload_n 3, 1) := dk_29 (dk_at dksX2_layShelf_2 15 rfl rfl)
theorem dX2_layShelf_62 : decode cX2_layShelf 62 = .ok (.invokevirtual 101, 3) := dk_182 0 101 (dk_at dksX2_layShelf_2 16 rfl rfl)
theorem dX2_layShelf_65 : decode cX2_layShelf 65 = .ok (.if_icmp .eq 9, 3) := dk_159 0 9 (dk_at dksX2_layShelf_2 19 rfl rfl)
theorem dX2_layShelf_68 : decode cX2_layShelf 68 = .ok (.iinc 4 1, 3) := dk_132 4 1 (dk_at dksX2_layShelf_3 0 rfl rfl)
theorem dX2_layShelf_71 : decode cX2_layShelf 71 = .ok (.goto (-19), 3) := dk_167 255 237 (dk_at dksX2_layShelf_3 3 rfl rfl)
theorem dX2_layShelf_74 : decode cX2_layShelf 74 = .ok (.aload_n 0, 1) := dk_42 (dk_at dksX2_layShelf_3 6 rfl rfl)
theorem dX2_layShelf_75 : decode cX2_layShelf 75 = .ok (.getfield 64, 3) := dk_180 0 64 (dk_at dksX2_layShelf_3 7 rfl rfl)
theorem dX2_layShelf_78 : decode cX2_layShelf 78 = .ok (.iload_n 3, 1) := dk_29 (dk_at dksX2_layShelf_3 10 rfl rfl)
theorem dX2_layShelf_79 : decode cX2_layShelf 79 = .ok (.iload 4, 2) := dk_21 4 (dk_at dksX2_layShelf_3 11 rfl rfl)
theorem dX2_layShelf_81 : decode cX2_layShelf 81 = .ok (.iastore, 1) := dk_79 (dk_at dksX2_layShelf_3 13 rfl rfl)
theorem dX2_layShelf_82 : decode cX2_layShelf 82 = .ok (.iinc 3 1, 3) := dk_132 3 1 (dk_at dksX2_layShelf_3 14 rfl rfl)
theorem dX2_layShelf_85 : decode cX2_layShelf 85 = .ok (.goto (-44), 3) := dk_167 255 212 (dk_at dksX2_layShelf_3 17 rfl rfl)
theorem dX2_layShelf_88 : decode cX2_layShelf 88 = .ok (.aload_n 0, 1) := dk_42 (dk_at dksX2_layShelf_3 20 rfl rfl)
theorem dX2_layShelf_89 : decode cX2_layShelf 89 = .ok (.invokevirtual 433, 3) := dk_182 1 177 (dk_at dksX2_layShelf_3 21 rfl rfl)
theorem dX2_layShelf_92 : decode cX2_layShelf 92 = .ok (.ireturn, 1) := dk_172 (dk_at dksX2_layShelf_4 0 rfl rfl)
abbrev MX2_layShelf : jjM := (yX2_layShelf, cX2_layShelf, 5, (Option.some Jvm.ClassFile.FieldType.int))
theorem npX2_layShelf : yX2_layShelf.cls ≠ "java/lang/invoke/MethodHandle" ∧ yX2_layShelf.cls ≠ "java/lang/invoke/VarHandle" ∧ (parseMethodDescriptor yX2_layShelf.desc).map (fun d => d.parameters.length) = some 1 := by decide +kernel
