/-! names, code and decode rows of the methods (out of claim/names) -/
set_option maxRecDepth 100000
abbrev cX2_isAt : ByteArray := prog_17_method_123_code
def yX2_isAt : MethodName := ⟨RX2, "isAt", "(III)Z"⟩
def dkwX2_isAt_1 : List UInt8 := [160, 0, 7, 4, 167, 0, 4, 3, 172]
abbrev dktX2_isAt_1 : List UInt8 := dkwX2_isAt_1 ++ []
def dkwX2_isAt_0 : List UInt8 := [28, 2, 159, 0, 23, 42, 180, 0, 61, 42, 180, 0, 52, 16, 6, 27, 104, 29, 96, 46, 46, 28]
abbrev dktX2_isAt_0 : List UInt8 := dkwX2_isAt_0 ++ dktX2_isAt_1
theorem dksX2_isAt_0 : cX2_isAt.data.toList.drop 0 = dktX2_isAt_0 := by decide +kernel
theorem dksX2_isAt_1 : cX2_isAt.data.toList.drop 22 = dktX2_isAt_1 := dk_seg dksX2_isAt_0 22 rfl rfl
theorem dX2_isAt_0 : decode cX2_isAt 0 = .ok (.iload_n 2, 1) := dk_28 (dk_at dksX2_isAt_0 0 rfl rfl)
theorem dX2_isAt_1 : decode cX2_isAt 1 = .ok (.iconst (-1), 1) := dk_2 (dk_at dksX2_isAt_0 1 rfl rfl)
theorem dX2_isAt_2 : decode cX2_isAt 2 = .ok (.if_icmp .eq 23, 3) := dk_159 0 23 (dk_at dksX2_isAt_0 2 rfl rfl)
theorem dX2_isAt_5 : decode cX2_isAt 5 = .ok (.aload_n 0, 1) := dk_42 (dk_at dksX2_isAt_0 5 rfl rfl)
theorem dX2_isAt_6 : decode cX2_isAt 6 = .ok (.getfield 61, 3) := dk_180 0 61 (dk_at dksX2_isAt_0 6 rfl rfl)
theorem dX2_isAt_9 : decode cX2_isAt 9 = .ok (.aload_n 0, 1) := dk_42 (dk_at dksX2_isAt_0 9 rfl rfl)
theorem dX2_isAt_10 : decode cX2_isAt 10 = .ok (.getfield 52, 3) := dk_180 0 52 (dk_at dksX2_isAt_0 10 rfl rfl)
theorem dX2_isAt_13 : decode cX2_isAt 13 = .ok (.bipush 6, 2) := dk_16 6 (dk_at dksX2_isAt_0 13 rfl rfl)
theorem dX2_isAt_15 : decode cX2_isAt 15 = .ok (.iload_n 1, 1) := dk_27 (dk_at dksX2_isAt_0 15 rfl rfl)
theorem dX2_isAt_16 : decode cX2_isAt 16 = .ok (.imul, 1) := dk_104 (dk_at dksX2_isAt_0 16 rfl rfl)
theorem dX2_isAt_17 : decode cX2_isAt 17 = .ok (.iload_n 3, 1) := dk_29 (dk_at dksX2_isAt_0 17 rfl rfl)
theorem dX2_isAt_18 : decode cX2_isAt 18 = .ok (.iadd, 1) := dk_96 (dk_at dksX2_isAt_0 18 rfl rfl)
theorem dX2_isAt_19 : decode cX2_isAt 19 = .ok (.iaload, 1) := dk_46 (dk_at dksX2_isAt_0 19 rfl rfl)
theorem dX2_isAt_20 : decode cX2_isAt 20 = .ok (.iaload, 1) := dk_46 (dk_at dksX2_isAt_0 20 rfl rfl)
theorem dX2_isAt_21 : decode cX2_isAt 21 = .ok (.iload_n 2, 1) := dk_28 (dk_at dksX2_isAt_0 21 rfl rfl)
theorem dX2_isAt_22 : decode cX2_isAt 22 = .ok (.if_icmp .ne 7, 3) := dk_160 0 7 (dk_at dksX2_isAt_1 0 rfl rfl)
theorem dX2_isAt_25 : decode cX2_isAt 25 = .ok (.iconst 1, 1) := dk_4 (dk_at dksX2_isAt_1 3 rfl rfl)
theorem dX2_isAt_26 : decode cX2_isAt 26 = .ok (.goto 4, 3) := dk_167 0 4 (dk_at dksX2_isAt_1 4 rfl rfl)
theorem dX2_isAt_29 : decode cX2_isAt 29 = .ok (.iconst 0, 1) := dk_3 (dk_at dksX2_isAt_1 7 rfl rfl)
theorem dX2_isAt_30 : decode cX2_isAt 30 = .ok (.ireturn, 1) := dk_172 (dk_at dksX2_isAt_1 8 rfl rfl)
abbrev MX2_isAt : jjM := (yX2_isAt, cX2_isAt, 4, (Option.some Jvm.ClassFile.FieldType.boolean))
theorem npX2_isAt : yX2_isAt.cls ≠ "java/lang/invoke/MethodHandle" ∧ yX2_isAt.cls ≠ "java/lang/invoke/VarHandle" ∧ (parseMethodDescriptor yX2_isAt.desc).map (fun d => d.parameters.length) = some 3 := by decide +kernel
abbrev cX2_nudged : ByteArray := prog_17_method_124_code
def yX2_nudged : MethodName := ⟨RX2, "nudged", "(II)I"⟩
def dkwX2_nudged_0 : List UInt8 := [42, 27, 182, 1, 168, 42, 28, 182, 1, 174, 42, 182, 1, 177, 172]
abbrev dktX2_nudged_0 : List UInt8 := dkwX2_nudged_0 ++ []
theorem dksX2_nudged_0 : cX2_nudged.data.toList.drop 0 = dktX2_nudged_0 := by decide +kernel
theorem dX2_nudged_0 : decode cX2_nudged 0 = .ok (.aload_n 0, 1) := dk_42 (dk_at dksX2_nudged_0 0 rfl rfl)
theorem dX2_nudged_1 : decode cX2_nudged 1 = .ok (.iload_n 1, 1) := dk_27 (dk_at dksX2_nudged_0 1 rfl rfl)
theorem dX2_nudged_2 : decode cX2_nudged 2 = .ok (.invokevirtual 424, 3) := dk_182 1 168 (dk_at dksX2_nudged_0 2 rfl rfl)
theorem dX2_nudged_5 : decode cX2_nudged 5 = .ok (.aload_n 0, 1) := dk_42 (dk_at dksX2_nudged_0 5 rfl rfl)
theorem dX2_nudged_6 : decode cX2_nudged 6 = .ok (.iload_n 2, 1) := dk_28 (dk_at dksX2_nudged_0 6 rfl rfl)
theorem dX2_nudged_7 : decode cX2_nudged 7 = .ok (.invokevirtual 430, 3) := dk_182 1 174 (dk_at dksX2_nudged_0 7 rfl rfl)
theorem dX2_nudged_10 : decode cX2_nudged 10 = .ok (.aload_n 0, 1) := dk_42 (dk_at dksX2_nudged_0 10 rfl rfl)
theorem dX2_nudged_11 : decode cX2_nudged 11 = .ok (.invokevirtual 433, 3) := dk_182 1 177 (dk_at dksX2_nudged_0 11 rfl rfl)
theorem dX2_nudged_14 : decode cX2_nudged 14 = .ok (.ireturn, 1) := dk_172 (dk_at dksX2_nudged_0 14 rfl rfl)
abbrev MX2_nudged : jjM := (yX2_nudged, cX2_nudged, 3, (Option.some Jvm.ClassFile.FieldType.int))
theorem npX2_nudged : yX2_nudged.cls ≠ "java/lang/invoke/MethodHandle" ∧ yX2_nudged.cls ≠ "java/lang/invoke/VarHandle" ∧ (parseMethodDescriptor yX2_nudged.desc).map (fun d => d.parameters.length) = some 2 := by decide +kernel
abbrev cX2_game : ByteArray := prog_17_method_129_code
def yX2_game : MethodName := ⟨RX2, "game", "(IIIZ)I"⟩
def dkwX2_game_11 : List UInt8 := [182, 1, 222, 46, 21, 7, 159, 0, 9, 132, 8, 1, 167, 255, 233, 21, 8, 172]
abbrev dktX2_game_11 : List UInt8 := dkwX2_game_11 ++ []
def dkwX2_game_10 : List UInt8 := [21, 4, 154, 0, 6, 21, 7, 172, 2, 54, 8, 42, 180, 0, 73, 42, 21, 5, 21, 8, 21, 6]
abbrev dktX2_game_10 : List UInt8 := dkwX2_game_10 ++ dktX2_game_11
def dkwX2_game_9 : List UInt8 := [167, 255, 162, 42, 180, 0, 7, 4, 46, 5, 112, 54, 6, 42, 21, 5, 21, 6, 4, 182, 1, 225, 54, 7]
abbrev dktX2_game_9 : List UInt8 := dkwX2_game_9 ++ dktX2_game_10
def dkwX2_game_8 : List UInt8 := [180, 0, 73, 21, 7, 42, 180, 0, 76, 21, 7, 46, 79, 132, 7, 1, 167, 255, 230, 132, 6, 255]
abbrev dktX2_game_8 : List UInt8 := dkwX2_game_8 ++ dktX2_game_9
def dkwX2_game_7 : List UInt8 := [182, 1, 225, 79, 132, 7, 1, 167, 255, 208, 3, 54, 7, 21, 7, 42, 180, 1, 162, 162, 0, 23, 42]
abbrev dktX2_game_7 : List UInt8 := dkwX2_game_7 ++ dktX2_game_8
def dkwX2_game_6 : List UInt8 := [42, 180, 0, 7, 4, 46, 21, 6, 96, 5, 112, 21, 6, 5, 112, 154, 0, 7, 4, 167, 0, 4, 3]
abbrev dktX2_game_6 : List UInt8 := dkwX2_game_6 ++ dktX2_game_7
def dkwX2_game_5 : List UInt8 := [158, 0, 95, 3, 54, 7, 21, 7, 42, 180, 1, 162, 162, 0, 45, 42, 180, 0, 76, 21, 7, 42, 21, 7]
abbrev dktX2_game_5 : List UInt8 := dkwX2_game_5 ++ dktX2_game_6
def dkwX2_game_4 : List UInt8 := [21, 7, 79, 132, 7, 1, 167, 255, 223, 132, 6, 1, 167, 255, 205, 29, 4, 100, 54, 6, 21, 6]
abbrev dktX2_game_4 : List UInt8 := dkwX2_game_4 ++ dktX2_game_5
def dkwX2_game_3 : List UInt8 := [180, 1, 156, 162, 0, 30, 42, 21, 6, 28, 21, 7, 182, 1, 216, 153, 0, 12, 42, 180, 0, 73, 21, 6]
abbrev dktX2_game_3 : List UInt8 := dkwX2_game_3 ++ dktX2_game_4
def dkwX2_game_2 : List UInt8 := [182, 1, 213, 54, 5, 3, 54, 6, 21, 6, 42, 180, 1, 162, 162, 0, 48, 3, 54, 7, 21, 7, 42]
abbrev dktX2_game_2 : List UInt8 := dkwX2_game_2 ++ dktX2_game_3
def dkwX2_game_1 : List UInt8 := [42, 28, 27, 3, 182, 1, 210, 153, 0, 12, 29, 4, 8, 184, 0, 89, 154, 0, 6, 16, 254, 172, 42, 27]
abbrev dktX2_game_1 : List UInt8 := dkwX2_game_1 ++ dktX2_game_2
def dkwX2_game_0 : List UInt8 := [27, 184, 1, 54, 153, 0, 39, 42, 180, 0, 7, 16, 13, 27, 96, 46, 5, 8, 184, 0, 89, 153, 0, 22]
abbrev dktX2_game_0 : List UInt8 := dkwX2_game_0 ++ dktX2_game_1
theorem dksX2_game_0 : cX2_game.data.toList.drop 0 = dktX2_game_0 := by decide +kernel
theorem dksX2_game_1 : cX2_game.data.toList.drop 24 = dktX2_game_1 := dk_seg dksX2_game_0 24 rfl rfl
theorem dksX2_game_2 : cX2_game.data.toList.drop 48 = dktX2_game_2 := dk_seg dksX2_game_1 24 rfl rfl
theorem dksX2_game_3 : cX2_game.data.toList.drop 71 = dktX2_game_3 := dk_seg dksX2_game_2 23 rfl rfl
theorem dksX2_game_4 : cX2_game.data.toList.drop 95 = dktX2_game_4 := dk_seg dksX2_game_3 24 rfl rfl
theorem dksX2_game_5 : cX2_game.data.toList.drop 117 = dktX2_game_5 := dk_seg dksX2_game_4 22 rfl rfl
theorem dksX2_game_6 : cX2_game.data.toList.drop 141 = dktX2_game_6 := dk_seg dksX2_game_5 24 rfl rfl
theorem dksX2_game_7 : cX2_game.data.toList.drop 164 = dktX2_game_7 := dk_seg dksX2_game_6 23 rfl rfl
theorem dksX2_game_8 : cX2_game.data.toList.drop 187 = dktX2_game_8 := dk_seg dksX2_game_7 23 rfl rfl
theorem dksX2_game_9 : cX2_game.data.toList.drop 209 = dktX2_game_9 := dk_seg dksX2_game_8 22 rfl rfl
theorem dksX2_game_10 : cX2_game.data.toList.drop 233 = dktX2_game_10 := dk_seg dksX2_game_9 24 rfl rfl
theorem dksX2_game_11 : cX2_game.data.toList.drop 255 = dktX2_game_11 := dk_seg dksX2_game_10 22 rfl rfl
theorem dX2_game_0 : decode cX2_game 0 = .ok (.iload_n 1, 1) := dk_27 (dk_at dksX2_game_0 0 rfl rfl)
theorem dX2_game_1 : decode cX2_game 1 = .ok (.invokestatic 310, 3) := dk_184 1 54 (dk_at dksX2_game_0 1 rfl rfl)
theorem dX2_game_4 : decode cX2_game 4 = .ok (.ifCond .eq 39, 3) := dk_153 0 39 (dk_at dksX2_game_0 4 rfl rfl)
theorem dX2_game_7 : decode cX2_game 7 = .ok (.aload_n 0, 1) := dk_42 (dk_at dksX2_game_0 7 rfl rfl)
theorem dX2_game_8 : decode cX2_game 8 = .ok (.getfield 7, 3) := dk_180 0 7 (dk_at dksX2_game_0 8 rfl rfl)
theorem dX2_game_11 : decode cX2_game 11 = .ok (.bipush 13, 2) := dk_16 13 (dk_at dksX2_game_0 11 rfl rfl)
theorem dX2_game_13 : decode cX2_game 13 = .ok (.iload_n 1, 1) := dk_27 (dk_at dksX2_game_0 13 rfl rfl)
theorem dX2_game_14 : decode cX2_game 14 = .ok (.iadd, 1) := dk_96 (dk_at dksX2_game_0 14 rfl rfl)
theorem dX2_game_15 : decode cX2_game 15 = .ok (.iaload, 1) := dk_46 (dk_at dksX2_game_0 15 rfl rfl)
theorem dX2_game_16 : decode cX2_game 16 = .ok (.iconst 2, 1) := dk_5 (dk_at dksX2_game_0 16 rfl rfl)
theorem dX2_game_17 : decode cX2_game 17 = .ok (.iconst 5, 1) := dk_8 (dk_at dksX2_game_0 17 rfl rfl)
theorem dX2_game_18 : decode cX2_game 18 = .ok (.invokestatic 89, 3) := dk_184 0 89 (dk_at dksX2_game_0 18 rfl rfl)
theorem dX2_game_21 : decode cX2_game 21 = .ok (.ifCond .eq 22, 3) := dk_153 0 22 (dk_at dksX2_game_0 21 rfl rfl)
theorem dX2_game_24 : decode cX2_game 24 = .ok (.aload_n 0, 1) := dk_42 (dk_at dksX2_game_1 0 rfl rfl)
theorem dX2_game_25 : decode cX2_game 25 = .ok (.iload_n 2, 1) := dk_28 (dk_at dksX2_game_1 1 rfl rfl)
theorem dX2_game_26 : decode cX2_game 26 = .ok (.iload_n 1, 1) := dk_27 (dk_at dksX2_game_1 2 rfl rfl)
theorem dX2_game_27 : decode cX2_game 27 = .ok (.iconst 0, 1) := dk_3 (dk_at dksX2_game_1 3 rfl rfl)
theorem dX2_game_28 : decode cX2_game 28 = .ok (.invokevirtual 466, 3) := dk_182 1 210 (dk_at dksX2_game_1 4 rfl rfl)
theorem dX2_game_31 : decode cX2_game 31 = .ok (.ifCond .eq 12, 3) := dk_153 0 12 (dk_at dksX2_game_1 7 rfl rfl)
theorem dX2_game_34 : decode cX2_game 34 = .ok (.iload_n 3, 1) := dk_29 (dk_at dksX2_game_1 10 rfl rfl)
theorem dX2_game_35 : decode cX2_game 35 = .ok (.iconst 1, 1) := dk_4 (dk_at dksX2_game_1 11 rfl rfl)
theorem dX2_game_36 : decode cX2_game 36 = .ok (.iconst 5, 1) := dk_8 (dk_at dksX2_game_1 12 rfl rfl)
theorem dX2_game_37 : decode cX2_game 37 = .ok (.invokestatic 89, 3) := dk_184 0 89 (dk_at dksX2_game_1 13 rfl rfl)
theorem dX2_game_40 : decode cX2_game 40 = .ok (.ifCond .ne 6, 3) := dk_154 0 6 (dk_at dksX2_game_1 16 rfl rfl)
theorem dX2_game_43 : decode cX2_game 43 = .ok (.bipush (-2), 2) := dk_16 254 (dk_at dksX2_game_1 19 rfl rfl)
theorem dX2_game_45 : decode cX2_game 45 = .ok (.ireturn, 1) := dk_172 (dk_at dksX2_game_1 21 rfl rfl)
theorem dX2_game_46 : decode cX2_game 46 = .ok (.aload_n 0, 1) := dk_42 (dk_at dksX2_game_1 22 rfl rfl)
theorem dX2_game_47 : decode cX2_game 47 = .ok (.iload_n 1, 1) := dk_27 (dk_at dksX2_game_1 23 rfl rfl)
theorem dX2_game_48 : decode cX2_game 48 = .ok (.invokevirtual 469, 3) := dk_182 1 213 (dk_at dksX2_game_2 0 rfl rfl)
theorem dX2_game_51 : decode cX2_game 51 = .ok (.istore 5, 2) := dk_54 5 (dk_at dksX2_game_2 3 rfl rfl)
theorem dX2_game_53 : decode cX2_game 53 = .ok (.iconst 0, 1) := dk_3 (dk_at dksX2_game_2 5 rfl rfl)
theorem dX2_game_54 : decode cX2_game 54 = .ok (.istore 6, 2) := dk_54 6 (dk_at dksX2_game_2 6 rfl rfl)
theorem dX2_game_56 : decode cX2_game 56 = .ok (.iload 6, 2) := dk_21 6 (dk_at dksX2_game_2 8 rfl rfl)
theorem dX2_game_58 : decode cX2_game 58 = .ok (.aload_n 0, 1) := dk_42 (dk_at dksX2_game_2 10 rfl rfl)
theorem dX2_game_59 : decode cX2_game 59 = .ok (.getfield 418, 3) := dk_180 1 162 (dk_at dksX2_game_2 11 rfl rfl)
theorem dX2_game_62 : decode cX2_game 62 = .ok (.if_icmp .ge 48, 3) := dk_162 0 48 (dk_at dksX2_game_2 14 rfl rfl)
theorem dX2_game_65 : decode cX2_game 65 = .ok (.iconst 0, 1) := dk_3 (dk_at dksX2_game_2 17 rfl rfl)
theorem dX2_game_66 : decode cX2_game 66 = .ok (.istore 7, 2) := dk_54 7 (dk_at dksX2_game_2 18 rfl rfl)
theorem dX2_game_68 : decode cX2_game 68 = .ok (.iload 7, 2) := dk_21 7 (dk_at dksX2_game_2 20 rfl rfl)
theorem dX2_game_70 : decode cX2_game 70 = .ok (.aload_n 0, 1) := dk_42 (dk_at dksX2_game_2 22 rfl rfl)
theorem dX2_game_71 : decode cX2_game 71 = .ok (.getfield 412, 3) := dk_180 1 156 (dk_at dksX2_game_3 0 rfl rfl)
theorem dX2_game_74 : decode cX2_game 74 = .ok (.if_icmp .ge 30, 3) := dk_162 0 30 (dk_at dksX2_game_3 3 rfl rfl)
theorem dX2_game_77 : decode cX2_game 77 = .ok (.aload_n 0, 1) := dk_42 (dk_at dksX2_game_3 6 rfl rfl)
theorem dX2_game_78 : decode cX2_game 78 = .ok (.iload 6, 2) := dk_21 6 (dk_at dksX2_game_3 7 rfl rfl)
theorem dX2_game_80 : decode cX2_game 80 = .ok (.iload_n 2, 1) := dk_28 (dk_at dksX2_game_3 9 rfl rfl)
theorem dX2_game_81 : decode cX2_game 81 = .ok (.iload 7, 2) := dk_21 7 (dk_at dksX2_game_3 10 rfl rfl)
theorem dX2_game_83 : decode cX2_game 83 = .ok (.invokevirtual 472, 3) := dk_182 1 216 (dk_at dksX2_game_3 12 rfl rfl)
theorem dX2_game_86 : decode cX2_game 86 = .ok (.ifCond .eq 12, 3) := dk_153 0 12 (dk_at dksX2_game_3 15 rfl rfl)
theorem dX2_game_89 : decode cX2_game 89 = .ok (.aload_n 0, 1) := dk_42 (dk_at dksX2_game_3 18 rfl rfl)
theorem dX2_game_90 : decode cX2_game 90 = .ok (.getfield 73, 3) := dk_180 0 73 (dk_at dksX2_game_3 19 rfl rfl)
theorem dX2_game_93 : decode cX2_game 93 = .ok (.iload 6, 2) := dk_21 6 (dk_at dksX2_game_3 22 rfl rfl)
theorem dX2_game_95 : decode cX2_game 95 = .ok (.iload 7, 2) := dk_21 7 (dk_at dksX2_game_4 0 rfl rfl)
theorem dX2_game_97 : decode cX2_game 97 = .ok (.iastore, 1) := dk_79 (dk_at dksX2_game_4 2 rfl rfl)
theorem dX2_game_98 : decode cX2_game 98 = .ok (.iinc 7 1, 3) := dk_132 7 1 (dk_at dksX2_game_4 3 rfl rfl)
theorem dX2_game_101 : decode cX2_game 101 = .ok (.goto (-33), 3) := dk_167 255 223 (dk_at dksX2_game_4 6 rfl rfl)
theorem dX2_game_104 : decode cX2_game 104 = .ok (.iinc 6 1, 3) := dk_132 6 1 (dk_at dksX2_game_4 9 rfl rfl)
theorem dX2_game_107 : decode cX2_game 107 = .ok (.goto (-51), 3) := dk_167 255 205 (dk_at dksX2_game_4 12 rfl rfl)
theorem dX2_game_110 : decode cX2_game 110 = .ok (.iload_n 3, 1) := dk_29 (dk_at dksX2_game_4 15 rfl rfl)
theorem dX2_game_111 : decode cX2_game 111 = .ok (.iconst 1, 1) := dk_4 (dk_at dksX2_game_4 16 rfl rfl)
theorem dX2_game_112 : decode cX2_game 112 = .ok (.isub, 1) := dk_100 (dk_at dksX2_game_4 17 rfl rfl)
theorem dX2_game_113 : decode cX2_game 113 = .ok (.istore 6, 2) := dk_54 6 (dk_at dksX2_game_4 18 rfl rfl)
theorem dX2_game_115 : decode cX2_game 115 = .ok (.iload 6, 2) := dk_21 6 (dk_at dksX2_game_4 20 rfl rfl)
theorem dX2_game_117 : decode cX2_game 117 = .ok (.ifCond .le 95, 3) := dk_158 0 95 (dk_at dksX2_game_5 0 rfl rfl)
theorem dX2_game_120 : decode cX2_game 120 = .ok (.iconst 0, 1) := dk_3 (dk_at dksX2_game_5 3 rfl rfl)
theorem dX2_game_121 : decode cX2_game 121 = .ok (.istore 7, 2) := dk_54 7 (dk_at dksX2_game_5 4 rfl rfl)
theorem dX2_game_123 : decode cX2_game 123 = .ok (.iload 7, 2) := dk_21 7 (dk_at dksX2_game_5 6 rfl rfl)
theorem dX2_game_125 : decode cX2_game 125 = .ok (.aload_n 0, 1) := dk_42 (dk_at dksX2_game_5 8 rfl rfl)
theorem dX2_game_126 : decode cX2_game 126 = .ok (.getfield 418, 3) := dk_180 1 162 (dk_at dksX2_game_5 9 rfl rfl)
theorem dX2_game_129 : decode cX2_game 129 = .ok (.if_icmp .ge 45, 3) := dk_162 0 45 (dk_at dksX2_game_5 12 rfl rfl)
theorem dX2_game_132 : decode cX2_game 132 = .ok (.aload_n 0, 1) := dk_42 (dk_at dksX2_game_5 15 rfl rfl)
theorem dX2_game_133 : decode cX2_game 133 = .ok (.getfield 76, 3) := dk_180 0 76 (dk_at dksX2_game_5 16 rfl rfl)
theorem dX2_game_136 : decode cX2_game 136 = .ok (.iload 7, 2) := dk_21 7 (dk_at dksX2_game_5 19 rfl rfl)
theorem dX2_game_138 : decode cX2_game 138 = .ok (.aload_n 0, 1) := dk_42 (dk_at dksX2_game_5 21 rfl rfl)
theorem dX2_game_139 : decode cX2_game 139 = .ok (.iload 7, 2) := dk_21 7 (dk_at dksX2_game_5 22 rfl rfl)
theorem dX2_game_141 : decode cX2_game 141 = .ok (.aload_n 0, 1) := dk_42 (dk_at dksX2_game_6 0 rfl rfl)
theorem dX2_game_142 : decode cX2_game 142 = .ok (.getfield 7, 3) := dk_180 0 7 (dk_at dksX2_game_6 1 rfl rfl)
theorem dX2_game_145 : decode cX2_game 145 = .ok (.iconst 1, 1) := dk_4 (dk_at dksX2_game_6 4 rfl rfl)
theorem dX2_game_146 : decode cX2_game 146 = .ok (.iaload, 1) := dk_46 (dk_at dksX2_game_6 5 rfl rfl)
theorem dX2_game_147 : decode cX2_game 147 = .ok (.iload 6, 2) := dk_21 6 (dk_at dksX2_game_6 6 rfl rfl)
theorem dX2_game_149 : decode cX2_game 149 = .ok (.iadd, 1) := dk_96 (dk_at dksX2_game_6 8 rfl rfl)
theorem dX2_game_150 : decode cX2_game 150 = .ok (.iconst 2, 1) := dk_5 (dk_at dksX2_game_6 9 rfl rfl)
theorem dX2_game_151 : decode cX2_game 151 = .ok (.irem, 1) := dk_112 (dk_at dksX2_game_6 10 rfl rfl)
theorem dX2_game_152 : decode cX2_game 152 = .ok (.iload 6, 2) := dk_21 6 (dk_at dksX2_game_6 11 rfl rfl)
theorem dX2_game_154 : decode cX2_game 154 = .ok (.iconst 2, 1) := dk_5 (dk_at dksX2_game_6 13 rfl rfl)
theorem dX2_game_155 : decode cX2_game 155 = .ok (.irem, 1) := dk_112 (dk_at dksX2_game_6 14 rfl rfl)
theorem dX2_game_156 : decode cX2_game 156 = .ok (.ifCond .ne 7, 3) := dk_154 0 7 (dk_at dksX2_game_6 15 rfl rfl)
theorem dX2_game_159 : decode cX2_game 159 = .ok (.iconst 1, 1) := dk_4 (dk_at dksX2_game_6 18 rfl rfl)
theorem dX2_game_160 : decode cX2_game 160 = .ok (.goto 4, 3) := dk_167 0 4 (dk_at dksX2_game_6 19 rfl rfl)
theorem dX2_game_163 : decode cX2_game 163 = .ok (.iconst 0, 1) := dk_3 (dk_at dksX2_game_6 22 rfl rfl)
theorem dX2_game_164 : decode cX2_game 164 = .ok (.invokevirtual 481, 3) := dk_182 1 225 (dk_at dksX2_game_7 0 rfl rfl)
theorem dX2_game_167 : decode cX2_game 167 = .ok (.iastore, 1) := dk_79 (dk_at dksX2_game_7 3 rfl rfl)
theorem dX2_game_168 : decode cX2_game 168 = .ok (.iinc 7 1, 3) := dk_132 7 1 (dk_at dksX2_game_7 4 rfl rfl)
theorem dX2_game_171 : decode cX2_game 171 = .ok (.goto (-48), 3) := dk_167 255 208 (dk_at dksX2_game_7 7 rfl rfl)
theorem dX2_game_174 : decode cX2_game 174 = .ok (.iconst 0, 1) := dk_3 (dk_at dksX2_game_7 10 rfl rfl)
theorem dX2_game_175 : decode cX2_game 175 = .ok (.istore 7, 2) := dk_54 7 (dk_at dksX2_game_7 11 rfl rfl)
theorem dX2_game_177 : decode cX2_game 177 = .ok (.iload 7, 2) := dk_21 7 (dk_at dksX2_game_7 13 rfl rfl)
theorem dX2_game_179 : decode cX2_game 179 = .ok (.aload_n 0, 1) := dk_42 (dk_at dksX2_game_7 15 rfl rfl)
theorem dX2_game_180 : decode cX2_game 180 = .ok (.getfield 418, 3) := dk_180 1 162 (dk_at dksX2_game_7 16 rfl rfl)
theorem dX2_game_183 : decode cX2_game 183 = .ok (.if_icmp .ge 23, 3) := dk_162 0 23 (dk_at dksX2_game_7 19 rfl rfl)
theorem dX2_game_186 : decode cX2_game 186 = .ok (.aload_n 0, 1) := dk_42 (dk_at dksX2_game_7 22 rfl rfl)
theorem dX2_game_187 : decode cX2_game 187 = .ok (.getfield 73, 3) := dk_180 0 73 (dk_at dksX2_game_8 0 rfl rfl)
theorem dX2_game_190 : decode cX2_game 190 = .ok (.iload 7, 2) := dk_21 7 (dk_at dksX2_game_8 3 rfl rfl)
theorem dX2_game_192 : decode cX2_game 192 = .ok (.aload_n 0, 1) := dk_42 (dk_at dksX2_game_8 5 rfl rfl)
theorem dX2_game_193 : decode cX2_game 193 = .ok (.getfield 76, 3) := dk_180 0 76 (dk_at dksX2_game_8 6 rfl rfl)
theorem dX2_game_196 : decode cX2_game 196 = .ok (.iload 7, 2) := dk_21 7 (dk_at dksX2_game_8 9 rfl rfl)
theorem dX2_game_198 : decode cX2_game 198 = .ok (.iaload, 1) := dk_46 (dk_at dksX2_game_8 11 rfl rfl)
theorem dX2_game_199 : decode cX2_game 199 = .ok (.iastore, 1) := dk_79 (dk_at dksX2_game_8 12 rfl rfl)
theorem dX2_game_200 : decode cX2_game 200 = .ok (.iinc 7 1, 3) := dk_132 7 1 (dk_at dksX2_game_8 13 rfl rfl)
theorem dX2_game_203 : decode cX2_game 203 = .ok (.goto (-26), 3) := dk_167 255 230 (dk_at dksX2_game_8 16 rfl rfl)
theorem dX2_game_206 : decode cX2_game 206 = .ok (.iinc 6 (-1), 3) := dk_132 6 255 (dk_at dksX2_game_8 19 rfl rfl)
theorem dX2_game_209 : decode cX2_game 209 = .ok (.goto (-94), 3) := dk_167 255 162 (dk_at dksX2_game_9 0 rfl rfl)
theorem dX2_game_212 : decode cX2_game 212 = .ok (.aload_n 0, 1) := dk_42 (dk_at dksX2_game_9 3 rfl rfl)
theorem dX2_game_213 : decode cX2_game 213 = .ok (.getfield 7, 3) := dk_180 0 7 (dk_at dksX2_game_9 4 rfl rfl)
theorem dX2_game_216 : decode cX2_game 216 = .ok (.iconst 1, 1) := dk_4 (dk_at dksX2_game_9 7 rfl rfl)
theorem dX2_game_217 : decode cX2_game 217 = .ok (.iaload, 1) := dk_46 (dk_at dksX2_game_9 8 rfl rfl)
theorem dX2_game_218 : decode cX2_game 218 = .ok (.iconst 2, 1) := dk_5 (dk_at dksX2_game_9 9 rfl rfl)
theorem dX2_game_219 : decode cX2_game 219 = .ok (.irem, 1) := dk_112 (dk_at dksX2_game_9 10 rfl rfl)
theorem dX2_game_220 : decode cX2_game 220 = .ok (.istore 6, 2) := dk_54 6 (dk_at dksX2_game_9 11 rfl rfl)
theorem dX2_game_222 : decode cX2_game 222 = .ok (.aload_n 0, 1) := dk_42 (dk_at dksX2_game_9 13 rfl rfl)
theorem dX2_game_223 : decode cX2_game 223 = .ok (.iload 5, 2) := dk_21 5 (dk_at dksX2_game_9 14 rfl rfl)
theorem dX2_game_225 : decode cX2_game 225 = .ok (.iload 6, 2) := dk_21 6 (dk_at dksX2_game_9 16 rfl rfl)
theorem dX2_game_227 : decode cX2_game 227 = .ok (.iconst 1, 1) := dk_4 (dk_at dksX2_game_9 18 rfl rfl)
theorem dX2_game_228 : decode cX2_game 228 = .ok (.invokevirtual 481, 3) := dk_182 1 225 (dk_at dksX2_game_9 19 rfl rfl)
theorem dX2_game_231 : decode cX2_game 231 = .ok (.istore 7, 2) := dk_54 7 (dk_at dksX2_game_9 22 rfl rfl)
theorem dX2_game_233 : decode cX2_game 233 = .ok (.iload 4, 2) := dk_21 4 (dk_at dksX2_game_10 0 rfl rfl)
theorem dX2_game_235 : decode cX2_game 235 = .ok (.ifCond .ne 6, 3) := dk_154 0 6 (dk_at dksX2_game_10 2 rfl rfl)
theorem dX2_game_238 : decode cX2_game 238 = .ok (.iload 7, 2) := dk_21 7 (dk_at dksX2_game_10 5 rfl rfl)
theorem dX2_game_240 : decode cX2_game 240 = .ok (.ireturn, 1) := dk_172 (dk_at dksX2_game_10 7 rfl rfl)
theorem dX2_game_241 : decode cX2_game 241 = .ok (.iconst (-1), 1) := dk_2 (dk_at dksX2_game_10 8 rfl rfl)
theorem dX2_game_242 : decode cX2_game 242 = .ok (.istore 8, 2) := dk_54 8 (dk_at dksX2_game_10 9 rfl rfl)
theorem dX2_game_244 : decode cX2_game 244 = .ok (.aload_n 0, 1) := dk_42 (dk_at dksX2_game_10 11 rfl rfl)
theorem dX2_game_245 : decode cX2_game 245 = .ok (.getfield 73, 3) := dk_180 0 73 (dk_at dksX2_game_10 12 rfl rfl)
theorem dX2_game_248 : decode cX2_game 248 = .ok (.aload_n 0, 1) := dk_42 (dk_at dksX2_game_10 15 rfl rfl)
theorem dX2_game_249 : decode cX2_game 249 = .ok (.iload 5, 2) := dk_21 5 (dk_at dksX2_game_10 16 rfl rfl)
theorem dX2_game_251 : decode cX2_game 251 = .ok (.iload 8, 2) := dk_21 8 (dk_at dksX2_game_10 18 rfl rfl)
theorem dX2_game_253 : decode cX2_game 253 = .ok (.iload 6, 2) := dk_21 6 (dk_at dksX2_game_10 20 rfl rfl)
theorem dX2_game_255 : decode cX2_game 255 = .ok (.invokevirtual 478, 3) := dk_182 1 222 (dk_at dksX2_game_11 0 rfl rfl)
theorem dX2_game_258 : decode cX2_game 258 = .ok (.iaload, 1) := dk_46 (dk_at dksX2_game_11 3 rfl rfl)
theorem dX2_game_259 : decode cX2_game 259 = .ok (.iload 7, 2) := dk_21 7 (dk_at dksX2_game_11 4 rfl rfl)
theorem dX2_game_261 : decode cX2_game 261 = .ok (.if_icmp .eq 9, 3) := dk_159 0 9 (dk_at dksX2_game_11 6 rfl rfl)
theorem dX2_game_264 : decode cX2_game 264 = .ok (.iinc 8 1, 3) := dk_132 8 1 (dk_at dksX2_game_11 9 rfl rfl)
theorem dX2_game_267 : decode cX2_game 267 = .ok (.goto (-23), 3) := dk_167 255 233 (dk_at dksX2_game_11 12 rfl rfl)
theorem dX2_game_270 : decode cX2_game 270 = .ok (.iload 8, 2) := dk_21 8 (dk_at dksX2_game_11 15 rfl rfl)
theorem dX2_game_272 : decode cX2_game 272 = .ok (.ireturn, 1) := dk_172 (dk_at dksX2_game_11 17 rfl rfl)
abbrev MX2_game : jjM := (yX2_game, cX2_game, 9, (Option.some Jvm.ClassFile.FieldType.int))
theorem npX2_game : yX2_game.cls ≠ "java/lang/invoke/MethodHandle" ∧ yX2_game.cls ≠ "java/lang/invoke/VarHandle" ∧ (parseMethodDescriptor yX2_game.desc).map (fun d => d.parameters.length) = some 4 := by decide +kernel
abbrev cX2_bestOf : ByteArray := prog_17_method_128_code
def yX2_bestOf : MethodName := ⟨RX2, "bestOf", "(IIZ)I"⟩
def dkwX2_bestOf_3 : List UInt8 := [132, 5, 1, 167, 255, 202, 21, 4, 172]
abbrev dktX2_bestOf_3 : List UInt8 := dkwX2_bestOf_3 ++ []
def dkwX2_bestOf_2 : List UInt8 := [153, 0, 13, 21, 6, 21, 4, 162, 0, 17, 167, 0, 10, 21, 6, 21, 4, 164, 0, 7, 21, 6, 54, 4]
abbrev dktX2_bestOf_2 : List UInt8 := dkwX2_bestOf_2 ++ dktX2_bestOf_3
def dkwX2_bestOf_1 : List UInt8 := [180, 1, 156, 162, 0, 49, 42, 180, 0, 73, 42, 27, 21, 5, 28, 182, 1, 222, 46, 54, 6, 29]
abbrev dktX2_bestOf_1 : List UInt8 := dkwX2_bestOf_1 ++ dktX2_bestOf_2
def dkwX2_bestOf_0 : List UInt8 := [42, 180, 0, 73, 42, 27, 2, 28, 182, 1, 222, 46, 54, 4, 3, 54, 5, 21, 5, 4, 96, 42]
abbrev dktX2_bestOf_0 : List UInt8 := dkwX2_bestOf_0 ++ dktX2_bestOf_1
theorem dksX2_bestOf_0 : cX2_bestOf.data.toList.drop 0 = dktX2_bestOf_0 := by decide +kernel
theorem dksX2_bestOf_1 : cX2_bestOf.data.toList.drop 22 = dktX2_bestOf_1 := dk_seg dksX2_bestOf_0 22 rfl rfl
theorem dksX2_bestOf_2 : cX2_bestOf.data.toList.drop 44 = dktX2_bestOf_2 := dk_seg dksX2_bestOf_1 22 rfl rfl
theorem dksX2_bestOf_3 : cX2_bestOf.data.toList.drop 68 = dktX2_bestOf_3 := dk_seg dksX2_bestOf_2 24 rfl rfl
theorem dX2_bestOf_0 : decode cX2_bestOf 0 = .ok (.aload_n 0, 1) := dk_42 (dk_at dksX2_bestOf_0 0 rfl rfl)
theorem dX2_bestOf_1 : decode cX2_bestOf 1 = .ok (.getfield 73, 3) := dk_180 0 73 (dk_at dksX2_bestOf_0 1 rfl rfl)
theorem dX2_bestOf_4 : decode cX2_bestOf 4 = .ok (.aload_n 0, 1) := dk_42 (dk_at dksX2_bestOf_0 4 rfl rfl)
theorem dX2_bestOf_5 : decode cX2_bestOf 5 = .ok (.iload_n 1, 1) := dk_27 (dk_at dksX2_bestOf_0 5 rfl rfl)
theorem dX2_bestOf_6 : decode cX2_bestOf 6 = .ok (.iconst (-1), 1) := dk_2 (dk_at dksX2_bestOf_0 6 rfl rfl)
theorem dX2_bestOf_7 : decode cX2_bestOf 7 = .ok (.iload_n 2, 1) := dk_28 (dk_at dksX2_bestOf_0 7 rfl rfl)
theorem dX2_bestOf_8 : decode cX2_bestOf 8 = .ok (.invokevirtual 478, 3) := dk_182 1 222 (dk_at dksX2_bestOf_0 8 rfl rfl)
theorem dX2_bestOf_11 : decode cX2_bestOf 11 = .ok (.iaload, 1) := dk_46 (dk_at dksX2_bestOf_0 11 rfl rfl)
theorem dX2_bestOf_12 : decode cX2_bestOf 12 = .ok (.istore 4, 2) := dk_54 4 (dk_at dksX2_bestOf_0 12 rfl rfl)
theorem dX2_bestOf_14 : decode cX2_bestOf 14 = .ok (.iconst 0, 1) := dk_3 (dk_at dksX2_bestOf_0 14 rfl rfl)
theorem dX2_bestOf_15 : decode cX2_bestOf 15 = .ok (.istore 5, 2) := dk_54 5 (dk_at dksX2_bestOf_0 15 rfl rfl)
theorem dX2_bestOf_17 : decode cX2_bestOf 17 = .ok (.iload 5, 2) := dk_21 5 (dk_at dksX2_bestOf_0 17 rfl rfl)
theorem dX2_bestOf_19 : decode cX2_bestOf 19 = .ok (.iconst 1, 1) := dk_4 (dk_at dksX2_bestOf_0 19 rfl rfl)
theorem dX2_bestOf_20 : decode cX2_bestOf 20 = .ok (.iadd, 1) := dk_96 (dk_at dksX2_bestOf_0 20 rfl rfl)
theorem dX2_bestOf_21 : decode cX2_bestOf 21 = .ok (.aload_n 0, 1) := dk_42 (dk_at dksX2_bestOf_0 21 rfl rfl)
theorem dX2_bestOf_22 : decode cX2_bestOf 22 = .ok (.getfield 412, 3) := dk_180 1 156 (dk_at dksX2_bestOf_1 0 rfl rfl)
theorem dX2_bestOf_25 : decode cX2_bestOf 25 = .ok (.if_icmp .ge 49, 3) := dk_162 0 49 (dk_at dksX2_bestOf_1 3 rfl rfl)
theorem dX2_bestOf_28 : decode cX2_bestOf 28 = .ok (.aload_n 0, 1) := dk_42 (dk_at dksX2_bestOf_1 6 rfl rfl)
theorem dX2_bestOf_29 : decode cX2_bestOf 29 = .ok (.getfield 73, 3) := dk_180 0 73 (dk_at dksX2_bestOf_1 7 rfl rfl)
theorem dX2_bestOf_32 : decode cX2_bestOf 32 = .ok (.aload_n 0, 1) := dk_42 (dk_at dksX2_bestOf_1 10 rfl rfl)
theorem dX2_bestOf_33 : decode cX2_bestOf 33 = .ok (.iload_n 1, 1) := dk_27 (dk_at dksX2_bestOf_1 11 rfl rfl)
theorem dX2_bestOf_34 : decode cX2_bestOf 34 = .ok (.iload 5, 2) := dk_21 5 (dk_at dksX2_bestOf_1 12 rfl rfl)
theorem dX2_bestOf_36 : decode cX2_bestOf 36 = .ok (.iload_n 2, 1) := dk_28 (dk_at dksX2_bestOf_1 14 rfl rfl)
theorem dX2_bestOf_37 : decode cX2_bestOf 37 = .ok (.invokevirtual 478, 3) := dk_182 1 222 (dk_at dksX2_bestOf_1 15 rfl rfl)
theorem dX2_bestOf_40 : decode cX2_bestOf 40 = .ok (.iaload, 1) := dk_46 (dk_at dksX2_bestOf_1 18 rfl rfl)
theorem dX2_bestOf_41 : decode cX2_bestOf 41 = .ok (.istore 6, 2) := dk_54 6 (dk_at dksX2_bestOf_1 19 rfl rfl)
theorem dX2_bestOf_43 : decode cX2_bestOf 43 = .ok (.iload_n 3, 1) := dk_29 (dk_at dksX2_bestOf_1 21 rfl rfl)
theorem dX2_bestOf_44 : decode cX2_bestOf 44 = .ok (.ifCond .eq 13, 3) := dk_153 0 13 (dk_at dksX2_bestOf_2 0 rfl rfl)
theorem dX2_bestOf_47 : decode cX2_bestOf 47 = .ok (.iload 6, 2) := dk_21 6 (dk_at dksX2_bestOf_2 3 rfl rfl)
theorem dX2_bestOf_49 : decode cX2_bestOf 49 = .ok (.iload 4, 2) := dk_21 4 (dk_at dksX2_bestOf_2 5 rfl rfl)
theorem dX2_bestOf_51 : decode cX2_bestOf 51 = .ok (.if_icmp .ge 17, 3) := dk_162 0 17 (dk_at dksX2_bestOf_2 7 rfl rfl)
theorem dX2_bestOf_54 : decode cX2_bestOf 54 = .ok (.goto 10, 3) := dk_167 0 10 (dk_at dksX2_bestOf_2 10 rfl rfl)
theorem dX2_bestOf_57 : decode cX2_bestOf 57 = .ok (.iload 6, 2) := dk_21 6 (dk_at dksX2_bestOf_2 13 rfl rfl)
theorem dX2_bestOf_59 : decode cX2_bestOf 59 = .ok (.iload 4, 2) := dk_21 4 (dk_at dksX2_bestOf_2 15 rfl rfl)
theorem dX2_bestOf_61 : decode cX2_bestOf 61 = .ok (.if_icmp .le 7, 3) := dk_164 0 7 (dk_at dksX2_bestOf_2 17 rfl rfl)
theorem dX2_bestOf_64 : decode cX2_bestOf 64 = .ok (.iload 6, 2) := dk_21 6 (dk_at dksX2_bestOf_2 20 rfl rfl)
theorem dX2_bestOf_66 : decode cX2_bestOf 66 = .ok (.istore 4, 2) := dk_54 4 (dk_at dksX2_bestOf_2 22 rfl rfl)
theorem dX2_bestOf_68 : decode cX2_bestOf 68 = .ok (.iinc 5 1, 3) := dk_132 5 1 (dk_at dksX2_bestOf_3 0 rfl rfl)
theorem dX2_bestOf_71 : decode cX2_bestOf 71 = .ok (.goto (-54), 3) := dk_167 255 202 (dk_at dksX2_bestOf_3 3 rfl rfl)
theorem dX2_bestOf_74 : decode cX2_bestOf 74 = .ok (.iload 4, 2) := dk_21 4 (dk_at dksX2_bestOf_3 6 rfl rfl)
theorem dX2_bestOf_76 : decode cX2_bestOf 76 = .ok (.ireturn, 1) := dk_172 (dk_at dksX2_bestOf_3 8 rfl rfl)
abbrev MX2_bestOf : jjM := (yX2_bestOf, cX2_bestOf, 7, (Option.some Jvm.ClassFile.FieldType.int))
theorem npX2_bestOf : yX2_bestOf.cls ≠ "java/lang/invoke/MethodHandle" ∧ yX2_bestOf.cls ≠ "java/lang/invoke/VarHandle" ∧ (parseMethodDescriptor yX2_bestOf.desc).map (fun d => d.parameters.length) = some 3 := by decide +kernel
abbrev cX2_moved : ByteArray := prog_17_method_127_code
def yX2_moved : MethodName := ⟨RX2, "moved", "(III)I"⟩
def dkwX2_moved_1 : List UInt8 := [172]
abbrev dktX2_moved_1 : List UInt8 := dkwX2_moved_1 ++ []
def dkwX2_moved_0 : List UInt8 := [42, 180, 0, 55, 5, 28, 2, 160, 0, 7, 27, 167, 0, 9, 42, 27, 28, 182, 1, 219, 104, 29, 96, 46]
abbrev dktX2_moved_0 : List UInt8 := dkwX2_moved_0 ++ dktX2_moved_1
theorem dksX2_moved_0 : cX2_moved.data.toList.drop 0 = dktX2_moved_0 := by decide +kernel
theorem dksX2_moved_1 : cX2_moved.data.toList.drop 24 = dktX2_moved_1 := dk_seg dksX2_moved_0 24 rfl rfl
theorem dX2_moved_0 : decode cX2_moved 0 = .ok (.aload_n 0, 1) := dk_42 (dk_at dksX2_moved_0 0 rfl rfl)
theorem dX2_moved_1 : decode cX2_moved 1 = .ok (.getfield 55, 3) := dk_180 0 55 (dk_at dksX2_moved_0 1 rfl rfl)
theorem dX2_moved_4 : decode cX2_moved 4 = .ok (.iconst 2, 1) := dk_5 (dk_at dksX2_moved_0 4 rfl rfl)
theorem dX2_moved_5 : decode cX2_moved 5 = .ok (.iload_n 2, 1) := dk_28 (dk_at dksX2_moved_0 5 rfl rfl)
theorem dX2_moved_6 : decode cX2_moved 6 = .ok (.iconst (-1), 1) := dk_2 (dk_at dksX2_moved_0 6 rfl rfl)
theorem dX2_moved_7 : decode cX2_moved 7 = .ok (.if_icmp .ne 7, 3) := dk_160 0 7 (dk_at dksX2_moved_0 7 rfl rfl)
theorem dX2_moved_10 : decode cX2_moved 10 = .ok (.iload_n 1, 1) := dk_27 (dk_at dksX2_moved_0 10 rfl rfl)
theorem dX2_moved_11 : decode cX2_moved 11 = .ok (.goto 9, 3) := dk_167 0 9 (dk_at dksX2_moved_0 11 rfl rfl)
theorem dX2_moved_14 : decode cX2_moved 14 = .ok (.aload_n 0, 1) := dk_42 (dk_at dksX2_moved_0 14 rfl rfl)
theorem dX2_moved_15 : decode cX2_moved 15 = .ok (.iload_n 1, 1) := dk_27 (dk_at dksX2_moved_0 15 rfl rfl)
theorem dX2_moved_16 : decode cX2_moved 16 = .ok (.iload_n 2, 1) := dk_28 (dk_at dksX2_moved_0 16 rfl rfl)
theorem dX2_moved_17 : decode cX2_moved 17 = .ok (.invokevirtual 475, 3) := dk_182 1 219 (dk_at dksX2_moved_0 17 rfl rfl)
theorem dX2_moved_20 : decode cX2_moved 20 = .ok (.imul, 1) := dk_104 (dk_at dksX2_moved_0 20 rfl rfl)
theorem dX2_moved_21 : decode cX2_moved 21 = .ok (.iload_n 3, 1) := dk_29 (dk_at dksX2_moved_0 21 rfl rfl)
theorem dX2_moved_22 : decode cX2_moved 22 = .ok (.iadd, 1) := dk_96 (dk_at dksX2_moved_0 22 rfl rfl)
theorem dX2_moved_23 : decode cX2_moved 23 = .ok (.iaload, 1) := dk_46 (dk_at dksX2_moved_0 23 rfl rfl)
theorem dX2_moved_24 : decode cX2_moved 24 = .ok (.ireturn, 1) := dk_172 (dk_at dksX2_moved_1 0 rfl rfl)
abbrev MX2_moved : jjM := (yX2_moved, cX2_moved, 4, (Option.some Jvm.ClassFile.FieldType.int))
theorem npX2_moved : yX2_moved.cls ≠ "java/lang/invoke/MethodHandle" ∧ yX2_moved.cls ≠ "java/lang/invoke/VarHandle" ∧ (parseMethodDescriptor yX2_moved.desc).map (fun d => d.parameters.length) = some 3 := by decide +kernel
abbrev cX2_catalogue : ByteArray := prog_17_method_130_code
def yX2_catalogue : MethodName := ⟨RX2, "catalogue", "(IIIZ)I"⟩
def dkwX2_catalogue_11 : List UInt8 := [2, 172]
abbrev dktX2_catalogue_11 : List UInt8 := dkwX2_catalogue_11 ++ []
def dkwX2_catalogue_10 : List UInt8 := [167, 255, 223, 132, 7, 1, 167, 255, 192, 42, 180, 0, 79, 21, 6, 46, 158, 0, 8, 21, 6, 167, 0, 4]
abbrev dktX2_catalogue_10 : List UInt8 := dkwX2_catalogue_10 ++ dktX2_catalogue_11
def dkwX2_catalogue_9 : List UInt8 := [180, 0, 79, 21, 8, 46, 42, 180, 0, 79, 21, 6, 46, 164, 0, 7, 21, 8, 54, 6, 132, 8, 1]
abbrev dktX2_catalogue_9 : List UInt8 := dkwX2_catalogue_9 ++ dktX2_catalogue_10
def dkwX2_catalogue_8 : List UInt8 := [42, 180, 0, 79, 21, 6, 3, 79, 3, 54, 6, 4, 54, 8, 21, 8, 42, 180, 1, 132, 162, 0, 30, 42]
abbrev dktX2_catalogue_8 : List UInt8 := dkwX2_catalogue_8 ++ dktX2_catalogue_9
def dkwX2_catalogue_7 : List UInt8 := [42, 180, 0, 79, 29, 46, 172, 2, 54, 6, 3, 54, 7, 21, 7, 29, 163, 0, 64, 21, 7, 158, 0, 11]
abbrev dktX2_catalogue_7 : List UInt8 := dkwX2_catalogue_7 ++ dktX2_catalogue_8
def dkwX2_catalogue_6 : List UInt8 := [180, 0, 7, 4, 46, 21, 6, 96, 5, 112, 182, 1, 141, 132, 6, 1, 167, 255, 188, 21, 4, 154, 0, 10]
abbrev dktX2_catalogue_6 : List UInt8 := dkwX2_catalogue_6 ++ dktX2_catalogue_7
def dkwX2_catalogue_5 : List UInt8 := [21, 7, 46, 27, 160, 0, 7, 4, 167, 0, 4, 3, 96, 79, 132, 7, 1, 167, 255, 218, 42, 42]
abbrev dktX2_catalogue_5 : List UInt8 := dkwX2_catalogue_5 ++ dktX2_catalogue_6
def dkwX2_catalogue_4 : List UInt8 := [54, 7, 21, 7, 42, 180, 1, 132, 162, 0, 35, 42, 180, 0, 79, 21, 7, 92, 46, 42, 180, 0, 46]
abbrev dktX2_catalogue_4 : List UInt8 := dkwX2_catalogue_4 ++ dktX2_catalogue_5
def dkwX2_catalogue_3 : List UInt8 := [180, 0, 79, 21, 6, 3, 79, 132, 6, 1, 167, 255, 238, 3, 54, 6, 21, 6, 28, 163, 0, 68, 3]
abbrev dktX2_catalogue_3 : List UInt8 := dkwX2_catalogue_3 ++ dktX2_catalogue_4
def dkwX2_catalogue_2 : List UInt8 := [154, 0, 5, 2, 172, 42, 21, 5, 2, 182, 1, 144, 3, 54, 6, 21, 6, 16, 10, 162, 0, 17, 42]
abbrev dktX2_catalogue_2 : List UInt8 := dkwX2_catalogue_2 ++ dktX2_catalogue_3
def dkwX2_catalogue_1 : List UInt8 := [182, 0, 97, 54, 5, 29, 3, 42, 180, 0, 7, 16, 13, 21, 5, 96, 46, 4, 100, 184, 0, 89]
abbrev dktX2_catalogue_1 : List UInt8 := dkwX2_catalogue_1 ++ dktX2_catalogue_2
def dkwX2_catalogue_0 : List UInt8 := [42, 27, 182, 1, 126, 153, 0, 13, 28, 3, 16, 99, 184, 0, 89, 154, 0, 5, 2, 172, 42, 27, 8]
abbrev dktX2_catalogue_0 : List UInt8 := dkwX2_catalogue_0 ++ dktX2_catalogue_1
theorem dksX2_catalogue_0 : cX2_catalogue.data.toList.drop 0 = dktX2_catalogue_0 := by decide +kernel
theorem dksX2_catalogue_1 : cX2_catalogue.data.toList.drop 23 = dktX2_catalogue_1 := dk_seg dksX2_catalogue_0 23 rfl rfl
theorem dksX2_catalogue_2 : cX2_catalogue.data.toList.drop 45 = dktX2_catalogue_2 := dk_seg dksX2_catalogue_1 22 rfl rfl
theorem dksX2_catalogue_3 : cX2_catalogue.data.toList.drop 68 = dktX2_catalogue_3 := dk_seg dksX2_catalogue_2 23 rfl rfl
theorem dksX2_catalogue_4 : cX2_catalogue.data.toList.drop 91 = dktX2_catalogue_4 := dk_seg dksX2_catalogue_3 23 rfl rfl
theorem dksX2_catalogue_5 : cX2_catalogue.data.toList.drop 114 = dktX2_catalogue_5 := dk_seg dksX2_catalogue_4 23 rfl rfl
theorem dksX2_catalogue_6 : cX2_catalogue.data.toList.drop 136 = dktX2_catalogue_6 := dk_seg dksX2_catalogue_5 22 rfl rfl
theorem dksX2_catalogue_7 : cX2_catalogue.data.toList.drop 160 = dktX2_catalogue_7 := dk_seg dksX2_catalogue_6 24 rfl rfl
theorem dksX2_catalogue_8 : cX2_catalogue.data.toList.drop 184 = dktX2_catalogue_8 := dk_seg dksX2_catalogue_7 24 rfl rfl
theorem dksX2_catalogue_9 : cX2_catalogue.data.toList.drop 208 = dktX2_catalogue_9 := dk_seg dksX2_catalogue_8 24 rfl rfl
theorem dksX2_catalogue_10 : cX2_catalogue.data.toList.drop 231 = dktX2_catalogue_10 := dk_seg dksX2_catalogue_9 23 rfl rfl
theorem dksX2_catalogue_11 : cX2_catalogue.data.toList.drop 255 = dktX2_catalogue_11 := dk_seg dksX2_catalogue_10 24 rfl rfl
theorem dX2_catalogue_0 : decode cX2_catalogue 0 = .ok (.aload_n 0, 1) := dk_42 (dk_at dksX2_catalogue_0 0 rfl rfl)
theorem dX2_catalogue_1 : decode cX2_catalogue 1 = .ok (.iload_n 1, 1) := dk_27 (dk_at dksX2_catalogue_0 1 rfl rfl)
theorem dX2_catalogue_2 : decode cX2_catalogue 2 = .ok (.invokevirtual 382, 3) := dk_182 1 126 (dk_at dksX2_catalogue_0 2 rfl rfl)
theorem dX2_catalogue_5 : decode cX2_catalogue 5 = .ok (.ifCond .eq 13, 3) := dk_153 0 13 (dk_at dksX2_catalogue_0 5 rfl rfl)
theorem dX2_catalogue_8 : decode cX2_catalogue 8 = .ok (.iload_n 2, 1) := dk_28 (dk_at dksX2_catalogue_0 8 rfl rfl)
theorem dX2_catalogue_9 : decode cX2_catalogue 9 = .ok (.iconst 0, 1) := dk_3 (dk_at dksX2_catalogue_0 9 rfl rfl)
theorem dX2_catalogue_10 : decode cX2_catalogue 10 = .ok (.bipush 99, 2) := dk_16 99 (dk_at dksX2_catalogue_0 10 rfl rfl)
theorem dX2_catalogue_12 : decode cX2_catalogue 12 = .ok (.invokestatic 89, 3) := dk_184 0 89 (dk_at dksX2_catalogue_0 12 rfl rfl)
theorem dX2_catalogue_15 : decode cX2_catalogue 15 = .ok (.ifCond .ne 5, 3) := dk_154 0 5 (dk_at dksX2_catalogue_0 15 rfl rfl)
theorem dX2_catalogue_18 : decode cX2_catalogue 18 = .ok (.iconst (-1), 1) := dk_2 (dk_at dksX2_catalogue_0 18 rfl rfl)
theorem dX2_catalogue_19 : decode cX2_catalogue 19 = .ok (.ireturn, 1) := dk_172 (dk_at dksX2_catalogue_0 19 rfl rfl)
theorem dX2_catalogue_20 : decode cX2_catalogue 20 = .ok (.aload_n 0, 1) := dk_42 (dk_at dksX2_catalogue_0 20 rfl rfl)
theorem dX2_catalogue_21 : decode cX2_catalogue 21 = .ok (.iload_n 1, 1) := dk_27 (dk_at dksX2_catalogue_0 21 rfl rfl)
theorem dX2_catalogue_22 : decode cX2_catalogue 22 = .ok (.iconst 5, 1) := dk_8 (dk_at dksX2_catalogue_0 22 rfl rfl)
theorem dX2_catalogue_23 : decode cX2_catalogue 23 = .ok (.invokevirtual 97, 3) := dk_182 0 97 (dk_at dksX2_catalogue_1 0 rfl rfl)
theorem dX2_catalogue_26 : decode cX2_catalogue 26 = .ok (.istore 5, 2) := dk_54 5 (dk_at dksX2_catalogue_1 3 rfl rfl)
theorem dX2_catalogue_28 : decode cX2_catalogue 28 = .ok (.iload_n 3, 1) := dk_29 (dk_at dksX2_catalogue_1 5 rfl rfl)
theorem dX2_catalogue_29 : decode cX2_catalogue 29 = .ok (.iconst 0, 1) := dk_3 (dk_at dksX2_catalogue_1 6 rfl rfl)
theorem dX2_catalogue_30 : decode cX2_catalogue 30 = .ok (.aload_n 0, 1) := dk_42 (dk_at dksX2_catalogue_1 7 rfl rfl)
theorem dX2_catalogue_31 : decode cX2_catalogue 31 = .ok (.getfield 7, 3) := dk_180 0 7 (dk_at dksX2_catalogue_1 8 rfl rfl)
theorem dX2_catalogue_34 : decode cX2_catalogue 34 = .ok (.bipush 13, 2) := dk_16 13 (dk_at dksX2_catalogue_1 11 rfl rfl)
theorem dX2_catalogue_36 : decode cX2_catalogue 36 = .ok (.iload 5, 2) := dk_21 5 (dk_at dksX2_catalogue_1 13 rfl rfl)
theorem dX2_catalogue_38 : decode cX2_catalogue 38 = .ok (.iadd, 1) := dk_96 (dk_at dksX2_catalogue_1 15 rfl rfl)
theorem dX2_catalogue_39 : decode cX2_catalogue 39 = .ok (.iaload, 1) := dk_46 (dk_at dksX2_catalogue_1 16 rfl rfl)
theorem dX2_catalogue_40 : decode cX2_catalogue 40 = .ok (.iconst 1, 1) := dk_4 (dk_at dksX2_catalogue_1 17 rfl rfl)
theorem dX2_catalogue_41 : decode cX2_catalogue 41 = .ok (.isub, 1) := dk_100 (dk_at dksX2_catalogue_1 18 rfl rfl)
theorem dX2_catalogue_42 : decode cX2_catalogue 42 = .ok (.invokestatic 89, 3) := dk_184 0 89 (dk_at dksX2_catalogue_1 19 rfl rfl)
theorem dX2_catalogue_45 : decode cX2_catalogue 45 = .ok (.ifCond .ne 5, 3) := dk_154 0 5 (dk_at dksX2_catalogue_2 0 rfl rfl)
theorem dX2_catalogue_48 : decode cX2_catalogue 48 = .ok (.iconst (-1), 1) := dk_2 (dk_at dksX2_catalogue_2 3 rfl rfl)
theorem dX2_catalogue_49 : decode cX2_catalogue 49 = .ok (.ireturn, 1) := dk_172 (dk_at dksX2_catalogue_2 4 rfl rfl)
theorem dX2_catalogue_50 : decode cX2_catalogue 50 = .ok (.aload_n 0, 1) := dk_42 (dk_at dksX2_catalogue_2 5 rfl rfl)
theorem dX2_catalogue_51 : decode cX2_catalogue 51 = .ok (.iload 5, 2) := dk_21 5 (dk_at dksX2_catalogue_2 6 rfl rfl)
theorem dX2_catalogue_53 : decode cX2_catalogue 53 = .ok (.iconst (-1), 1) := dk_2 (dk_at dksX2_catalogue_2 8 rfl rfl)
theorem dX2_catalogue_54 : decode cX2_catalogue 54 = .ok (.invokevirtual 400, 3) := dk_182 1 144 (dk_at dksX2_catalogue_2 9 rfl rfl)
theorem dX2_catalogue_57 : decode cX2_catalogue 57 = .ok (.iconst 0, 1) := dk_3 (dk_at dksX2_catalogue_2 12 rfl rfl)
theorem dX2_catalogue_58 : decode cX2_catalogue 58 = .ok (.istore 6, 2) := dk_54 6 (dk_at dksX2_catalogue_2 13 rfl rfl)
theorem dX2_catalogue_60 : decode cX2_catalogue 60 = .ok (.iload 6, 2) := dk_21 6 (dk_at dksX2_catalogue_2 15 rfl rfl)
theorem dX2_catalogue_62 : decode cX2_catalogue 62 = .ok (.bipush 10, 2) := dk_16 10 (dk_at dksX2_catalogue_2 17 rfl rfl)
theorem dX2_catalogue_64 : decode cX2_catalogue 64 = .ok (.if_icmp .ge 17, 3) := dk_162 0 17 (dk_at dksX2_catalogue_2 19 rfl rfl)
theorem dX2_catalogue_67 : decode cX2_catalogue 67 = .ok (.aload_n 0, 1) := dk_42 (dk_at dksX2_catalogue_2 22 rfl rfl)
theorem dX2_catalogue_68 : decode cX2_catalogue 68 = .ok (.getfield 79, 3) := dk_180 0 79 (dk_at dksX2_catalogue_3 0 rfl rfl)
theorem dX2_catalogue_71 : decode cX2_catalogue 71 = .ok (.iload 6, 2) := dk_21 6 (dk_at dksX2_catalogue_3 3 rfl rfl)
theorem dX2_catalogue_73 : decode cX2_catalogue 73 = .ok (.iconst 0, 1) := dk_3 (dk_at dksX2_catalogue_3 5 rfl rfl)
theorem dX2_catalogue_74 : decode cX2_catalogue 74 = .ok (.iastore, 1) := dk_79 (dk_at dksX2_catalogue_3 6 rfl rfl)
theorem dX2_catalogue_75 : decode cX2_catalogue 75 = .ok (.iinc 6 1, 3) := dk_132 6 1 (dk_at dksX2_catalogue_3 7 rfl rfl)
theorem dX2_catalogue_78 : decode cX2_catalogue 78 = .ok (.goto (-18), 3) := dk_167 255 238 (dk_at dksX2_catalogue_3 10 rfl rfl)
theorem dX2_catalogue_81 : decode cX2_catalogue 81 = .ok (.iconst 0, 1) := dk_3 (dk_at dksX2_catalogue_3 13 rfl rfl)
theorem dX2_catalogue_82 : decode cX2_catalogue 82 = .ok (.istore 6, 2) := dk_54 6 (dk_at dksX2_catalogue_3 14 rfl rfl)
theorem dX2_catalogue_84 : decode cX2_catalogue 84 = .ok (.iload 6, 2) := dk_21 6 (dk_at dksX2_catalogue_3 16 rfl rfl)
theorem dX2_catalogue_86 : decode cX2_catalogue 86 = .ok (.iload_n 2, 1) := dk_28 (dk_at dksX2_catalogue_3 18 rfl rfl)
theorem dX2_catalogue_87 : decode cX2_catalogue 87 = .ok (.if_icmp .gt 68, 3) := dk_163 0 68 (dk_at dksX2_catalogue_3 19 rfl rfl)
theorem dX2_catalogue_90 : decode cX2_catalogue 90 = .ok (.iconst 0, 1) := dk_3 (dk_at dksX2_catalogue_3 22 rfl rfl)
theorem dX2_catalogue_91 : decode cX2_catalogue 91 = .ok (.istore 7, 2) := dk_54 7 (dk_at dksX2_catalogue_4 0 rfl rfl)
theorem dX2_catalogue_93 : decode cX2_catalogue 93 = .ok (.iload 7, 2) := dk_21 7 (dk_at dksX2_catalogue_4 2 rfl rfl)
theorem dX2_catalogue_95 : decode cX2_catalogue 95 = .ok (.aload_n 0, 1) := dk_42 (dk_at dksX2_catalogue_4 4 rfl rfl)
theorem dX2_catalogue_96 : decode cX2_catalogue 96 = .ok (.getfield 388, 3) := dk_180 1 132 (dk_at dksX2_catalogue_4 5 rfl rfl)
theorem dX2_catalogue_99 : decode cX2_catalogue 99 = .ok (.if_icmp .ge 35, 3) := dk_162 0 35 (dk_at dksX2_catalogue_4 8 rfl rfl)
theorem dX2_catalogue_102 : decode cX2_catalogue 102 = .ok (.aload_n 0, 1) := dk_42 (dk_at dksX2_catalogue_4 11 rfl rfl)
theorem dX2_catalogue_103 : decode cX2_catalogue 103 = .ok (.getfield 79, 3) := dk_180 0 79 (dk_at dksX2_catalogue_4 12 rfl rfl)
theorem dX2_catalogue_106 : decode cX2_catalogue 106 = .ok (.iload 7, 2) := dk_21 7 (dk_at dksX2_catalogue_4 15 rfl rfl)
theorem dX2_catalogue_108 : decode cX2_catalogue 108 = .ok (.dup2, 1) := dk_92 (dk_at dksX2_catalogue_4 17 rfl rfl)
theorem dX2_catalogue_109 : decode cX2_catalogue 109 = .ok (.iaload, 1) := dk_46 (dk_at dksX2_catalogue_4 18 rfl rfl)
theorem dX2_catalogue_110 : decode cX2_catalogue 110 = .ok (.aload_n 0, 1) := dk_42 (dk_at dksX2_catalogue_4 19 rfl rfl)
theorem dX2_catalogue_111 : decode cX2_catalogue 111 = .ok (.getfield 46, 3) := dk_180 0 46 (dk_at dksX2_catalogue_4 20 rfl rfl)
theorem dX2_catalogue_114 : decode cX2_catalogue 114 = .ok (.iload 7, 2) := dk_21 7 (dk_at dksX2_catalogue_5 0 rfl rfl)
theorem dX2_catalogue_116 : decode cX2_catalogue 116 = .ok (.iaload, 1) := dk_46 (dk_at dksX2_catalogue_5 2 rfl rfl)
theorem dX2_catalogue_117 : decode cX2_catalogue 117 = .ok (.iload_n 1, 1) := dk_27 (dk_at dksX2_catalogue_5 3 rfl rfl)
theorem dX2_catalogue_118 : decode cX2_catalogue 118 = .ok (.if_icmp .ne 7, 3) := dk_160 0 7 (dk_at dksX2_catalogue_5 4 rfl rfl)
theorem dX2_catalogue_121 : decode cX2_catalogue 121 = .ok (.iconst 1, 1) := dk_4 (dk_at dksX2_catalogue_5 7 rfl rfl)
theorem dX2_catalogue_122 : decode cX2_catalogue 122 = .ok (.goto 4, 3) := dk_167 0 4 (dk_at dksX2_catalogue_5 8 rfl rfl)
theorem dX2_catalogue_125 : decode cX2_catalogue 125 = .ok (.iconst 0, 1) := dk_3 (dk_at dksX2_catalogue_5 11 rfl rfl)
theorem dX2_catalogue_126 : decode cX2_catalogue 126 = .ok (.iadd, 1) := dk_96 (dk_at dksX2_catalogue_5 12 rfl rfl)
theorem dX2_catalogue_127 : decode cX2_catalogue 127 = .ok (.iastore, 1) := dk_79 (dk_at dksX2_catalogue_5 13 rfl rfl)
theorem dX2_catalogue_128 : decode cX2_catalogue 128 = .ok (.iinc 7 1, 3) := dk_132 7 1 (dk_at dksX2_catalogue_5 14 rfl rfl)
theorem dX2_catalogue_131 : decode cX2_catalogue 131 = .ok (.goto (-38), 3) := dk_167 255 218 (dk_at dksX2_catalogue_5 17 rfl rfl)
theorem dX2_catalogue_134 : decode cX2_catalogue 134 = .ok (.aload_n 0, 1) := dk_42 (dk_at dksX2_catalogue_5 20 rfl rfl)
theorem dX2_catalogue_135 : decode cX2_catalogue 135 = .ok (.aload_n 0, 1) := dk_42 (dk_at dksX2_catalogue_5 21 rfl rfl)
theorem dX2_catalogue_136 : decode cX2_catalogue 136 = .ok (.getfield 7, 3) := dk_180 0 7 (dk_at dksX2_catalogue_6 0 rfl rfl)
theorem dX2_catalogue_139 : decode cX2_catalogue 139 = .ok (.iconst 1, 1) := dk_4 (dk_at dksX2_catalogue_6 3 rfl rfl)
theorem dX2_catalogue_140 : decode cX2_catalogue 140 = .ok (.iaload, 1) := dk_46 (dk_at dksX2_catalogue_6 4 rfl rfl)
theorem dX2_catalogue_141 : decode cX2_catalogue 141 = .ok (.iload 6, 2) := dk_21 6 (dk_at dksX2_catalogue_6 5 rfl rfl)
theorem dX2_catalogue_143 : decode cX2_catalogue 143 = .ok (.iadd, 1) := dk_96 (dk_at dksX2_catalogue_6 7 rfl rfl)
theorem dX2_catalogue_144 : decode cX2_catalogue 144 = .ok (.iconst 2, 1) := dk_5 (dk_at dksX2_catalogue_6 8 rfl rfl)
theorem dX2_catalogue_145 : decode cX2_catalogue 145 = .ok (.irem, 1) := dk_112 (dk_at dksX2_catalogue_6 9 rfl rfl)
theorem dX2_catalogue_146 : decode cX2_catalogue 146 = .ok (.invokevirtual 397, 3) := dk_182 1 141 (dk_at dksX2_catalogue_6 10 rfl rfl)
theorem dX2_catalogue_149 : decode cX2_catalogue 149 = .ok (.iinc 6 1, 3) := dk_132 6 1 (dk_at dksX2_catalogue_6 13 rfl rfl)
theorem dX2_catalogue_152 : decode cX2_catalogue 152 = .ok (.goto (-68), 3) := dk_167 255 188 (dk_at dksX2_catalogue_6 16 rfl rfl)
theorem dX2_catalogue_155 : decode cX2_catalogue 155 = .ok (.iload 4, 2) := dk_21 4 (dk_at dksX2_catalogue_6 19 rfl rfl)
theorem dX2_catalogue_157 : decode cX2_catalogue 157 = .ok (.ifCond .ne 10, 3) := dk_154 0 10 (dk_at dksX2_catalogue_6 21 rfl rfl)
theorem dX2_catalogue_160 : decode cX2_catalogue 160 = .ok (.aload_n 0, 1) := dk_42 (dk_at dksX2_catalogue_7 0 rfl rfl)
theorem dX2_catalogue_161 : decode cX2_catalogue 161 = .ok (.getfield 79, 3) := dk_180 0 79 (dk_at dksX2_catalogue_7 1 rfl rfl)
theorem dX2_catalogue_164 : decode cX2_catalogue 164 = .ok (.iload_n 3, 1) := dk_29 (dk_at dksX2_catalogue_7 4 rfl rfl)
theorem dX2_catalogue_165 : decode cX2_catalogue 165 = .ok (.iaload, 1) := dk_46 (dk_at dksX2_catalogue_7 5 rfl rfl)
theorem dX2_catalogue_166 : decode cX2_catalogue 166 = .ok (.ireturn, 1) := dk_172 (dk_at dksX2_catalogue_7 6 rfl rfl)
theorem dX2_catalogue_167 : decode cX2_catalogue 167 = .ok (.iconst (-1), 1) := dk_2 (dk_at dksX2_catalogue_7 7 rfl rfl)
theorem dX2_catalogue_168 : decode cX2_catalogue 168 = .ok (.istore 6, 2) := dk_54 6 (dk_at dksX2_catalogue_7 8 rfl rfl)
theorem dX2_catalogue_170 : decode cX2_catalogue 170 = .ok (.iconst 0, 1) := dk_3 (dk_at dksX2_catalogue_7 10 rfl rfl)
theorem dX2_catalogue_171 : decode cX2_catalogue 171 = .ok (.istore 7, 2) := dk_54 7 (dk_at dksX2_catalogue_7 11 rfl rfl)
theorem dX2_catalogue_173 : decode cX2_catalogue 173 = .ok (.iload 7, 2) := dk_21 7 (dk_at dksX2_catalogue_7 13 rfl rfl)
theorem dX2_catalogue_175 : decode cX2_catalogue 175 = .ok (.iload_n 3, 1) := dk_29 (dk_at dksX2_catalogue_7 15 rfl rfl)
theorem dX2_catalogue_176 : decode cX2_catalogue 176 = .ok (.if_icmp .gt 64, 3) := dk_163 0 64 (dk_at dksX2_catalogue_7 16 rfl rfl)
theorem dX2_catalogue_179 : decode cX2_catalogue 179 = .ok (.iload 7, 2) := dk_21 7 (dk_at dksX2_catalogue_7 19 rfl rfl)
theorem dX2_catalogue_181 : decode cX2_catalogue 181 = .ok (.ifCond .le 11, 3) := dk_158 0 11 (dk_at dksX2_catalogue_7 21 rfl rfl)
theorem dX2_catalogue_184 : decode cX2_catalogue 184 = .ok (.aload_n 0, 1) := dk_42 (dk_at dksX2_catalogue_8 0 rfl rfl)
theorem dX2_catalogue_185 : decode cX2_catalogue 185 = .ok (.getfield 79, 3) := dk_180 0 79 (dk_at dksX2_catalogue_8 1 rfl rfl)
theorem dX2_catalogue_188 : decode cX2_catalogue 188 = .ok (.iload 6, 2) := dk_21 6 (dk_at dksX2_catalogue_8 4 rfl rfl)
theorem dX2_catalogue_190 : decode cX2_catalogue 190 = .ok (.iconst 0, 1) := dk_3 (dk_at dksX2_catalogue_8 6 rfl rfl)
theorem dX2_catalogue_191 : decode cX2_catalogue 191 = .ok (.iastore, 1) := dk_79 (dk_at dksX2_catalogue_8 7 rfl rfl)
theorem dX2_catalogue_192 : decode cX2_catalogue 192 = .ok (.iconst 0, 1) := dk_3 (dk_at dksX2_catalogue_8 8 rfl rfl)
theorem dX2_catalogue_193 : decode cX2_catalogue 193 = .ok (.istore 6, 2) := dk_54 6 (dk_at dksX2_catalogue_8 9 rfl rfl)
theorem dX2_catalogue_195 : decode cX2_catalogue 195 = .ok (.iconst 1, 1) := dk_4 (dk_at dksX2_catalogue_8 11 rfl rfl)
theorem dX2_catalogue_196 : decode cX2_catalogue 196 = .ok (.istore 8, 2) := dk_54 8 (dk_at dksX2_catalogue_8 12 rfl rfl)
theorem dX2_catalogue_198 : decode cX2_catalogue 198 = .ok (.iload 8, 2) := dk_21 8 (dk_at dksX2_catalogue_8 14 rfl rfl)
theorem dX2_catalogue_200 : decode cX2_catalogue 200 = .ok (.aload_n 0, 1) := dk_42 (dk_at dksX2_catalogue_8 16 rfl rfl)
theorem dX2_catalogue_201 : decode cX2_catalogue 201 = .ok (.getfield 388, 3) := dk_180 1 132 (dk_at dksX2_catalogue_8 17 rfl rfl)
theorem dX2_catalogue_204 : decode cX2_catalogue 204 = .ok (.if_icmp .ge 30, 3) := dk_162 0 30 (dk_at dksX2_catalogue_8 20 rfl rfl)
theorem dX2_catalogue_207 : decode cX2_catalogue 207 = .ok (.aload_n 0, 1) := dk_42 (dk_at dksX2_catalogue_8 23 rfl rfl)
theorem dX2_catalogue_208 : decode cX2_catalogue 208 = .ok (.getfield 79, 3) := dk_180 0 79 (dk_at dksX2_catalogue_9 0 rfl rfl)
theorem dX2_catalogue_211 : decode cX2_catalogue 211 = .ok (.iload 8, 2) := dk_21 8 (dk_at dksX2_catalogue_9 3 rfl rfl)
theorem dX2_catalogue_213 : decode cX2_catalogue 213 = .ok (.iaload, 1) := dk_46 (dk_at dksX2_catalogue_9 5 rfl rfl)
theorem dX2_catalogue_214 : decode cX2_catalogue 214 = .ok (.aload_n 0, 1) := dk_42 (dk_at dksX2_catalogue_9 6 rfl rfl)
theorem dX2_catalogue_215 : decode cX2_catalogue 215 = .ok (.getfield 79, 3) := dk_180 0 79 (dk_at dksX2_catalogue_9 7 rfl rfl)
theorem dX2_catalogue_218 : decode cX2_catalogue 218 = .ok (.iload 6, 2) := dk_21 6 (dk_at dksX2_catalogue_9 10 rfl rfl)
theorem dX2_catalogue_220 : decode cX2_catalogue 220 = .ok (.iaload, 1) := dk_46 (dk_at dksX2_catalogue_9 12 rfl rfl)
theorem dX2_catalogue_221 : decode cX2_catalogue 221 = .ok (.if_icmp .le 7, 3) := dk_164 0 7 (dk_at dksX2_catalogue_9 13 rfl rfl)
theorem dX2_catalogue_224 : decode cX2_catalogue 224 = .ok (.iload 8, 2) := dk_21 8 (dk_at dksX2_catalogue_9 16 rfl rfl)
theorem dX2_catalogue_226 : decode cX2_catalogue 226 = .ok (.istore 6, 2) := dk_54 6 (dk_at dksX2_catalogue_9 18 rfl rfl)
theorem dX2_catalogue_228 : decode cX2_catalogue 228 = .ok (.iinc 8 1, 3) := dk_132 8 1 (dk_at dksX2_catalogue_9 20 rfl rfl)
theorem dX2_catalogue_231 : decode cX2_catalogue 231 = .ok (.goto (-33), 3) := dk_167 255 223 (dk_at dksX2_catalogue_10 0 rfl rfl)
theorem dX2_catalogue_234 : decode cX2_catalogue 234 = .ok (.iinc 7 1, 3) := dk_132 7 1 (dk_at dksX2_catalogue_10 3 rfl rfl)
theorem dX2_catalogue_237 : decode cX2_catalogue 237 = .ok (.goto (-64), 3) := dk_167 255 192 (dk_at dksX2_catalogue_10 6 rfl rfl)
theorem dX2_catalogue_240 : decode cX2_catalogue 240 = .ok (.aload_n 0, 1) := dk_42 (dk_at dksX2_catalogue_10 9 rfl rfl)
theorem dX2_catalogue_241 : decode cX2_catalogue 241 = .ok (.getfield 79, 3) := dk_180 0 79 (dk_at dksX2_catalogue_10 10 rfl rfl)
theorem dX2_catalogue_244 : decode cX2_catalogue 244 = .ok (.iload 6, 2) := dk_21 6 (dk_at dksX2_catalogue_10 13 rfl rfl)
theorem dX2_catalogue_246 : decode cX2_catalogue 246 = .ok (.iaload, 1) := dk_46 (dk_at dksX2_catalogue_10 15 rfl rfl)
theorem dX2_catalogue_247 : decode cX2_catalogue 247 = .ok (.ifCond .le 8, 3) := dk_158 0 8 (dk_at dksX2_catalogue_10 16 rfl rfl)
theorem dX2_catalogue_250 : decode cX2_catalogue 250 = .ok (.iload 6, 2) := dk_21 6 (dk_at dksX2_catalogue_10 19 rfl rfl)
theorem dX2_catalogue_252 : decode cX2_catalogue 252 = .ok (.goto 4, 3) := dk_167 0 4 (dk_at dksX2_catalogue_10 21 rfl rfl)
theorem dX2_catalogue_255 : decode cX2_catalogue 255 = .ok (.iconst (-1), 1) := dk_2 (dk_at dksX2_catalogue_11 0 rfl rfl)
theorem dX2_catalogue_256 : decode cX2_catalogue 256 = .ok (.ireturn, 1) := dk_172 (dk_at dksX2_catalogue_11 1 rfl rfl)
abbrev MX2_catalogue : jjM := (yX2_catalogue, cX2_catalogue, 9, (Option.some Jvm.ClassFile.FieldType.int))
theorem npX2_catalogue : yX2_catalogue.cls ≠ "java/lang/invoke/MethodHandle" ∧ yX2_catalogue.cls ≠ "java/lang/invoke/VarHandle" ∧ (parseMethodDescriptor yX2_catalogue.desc).map (fun d => d.parameters.length) = some 4 := by decide +kernel
abbrev cX2_theft : ByteArray := prog_17_method_132_code
def yX2_theft : MethodName := ⟨RX2, "theft", "(I)I"⟩
def dkwX2_theft_0 : List UInt8 := [42, 27, 182, 1, 126, 153, 0, 11, 42, 27, 182, 1, 229, 167, 0, 4, 2, 172]
abbrev dktX2_theft_0 : List UInt8 := dkwX2_theft_0 ++ []
theorem dksX2_theft_0 : cX2_theft.data.toList.drop 0 = dktX2_theft_0 := by decide +kernel
theorem dX2_theft_0 : decode cX2_theft 0 = .ok (.aload_n 0, 1) := dk_42 (dk_at dksX2_theft_0 0 rfl rfl)
theorem dX2_theft_1 : decode cX2_theft 1 = .ok (.iload_n 1, 1) := dk_27 (dk_at dksX2_theft_0 1 rfl rfl)
theorem dX2_theft_2 : decode cX2_theft 2 = .ok (.invokevirtual 382, 3) := dk_182 1 126 (dk_at dksX2_theft_0 2 rfl rfl)
theorem dX2_theft_5 : decode cX2_theft 5 = .ok (.ifCond .eq 11, 3) := dk_153 0 11 (dk_at dksX2_theft_0 5 rfl rfl)
theorem dX2_theft_8 : decode cX2_theft 8 = .ok (.aload_n 0, 1) := dk_42 (dk_at dksX2_theft_0 8 rfl rfl)
theorem dX2_theft_9 : decode cX2_theft 9 = .ok (.iload_n 1, 1) := dk_27 (dk_at dksX2_theft_0 9 rfl rfl)
theorem dX2_theft_10 : decode cX2_theft 10 = .ok (.invokevirtual 485, 3) := dk_182 1 229 (dk_at dksX2_theft_0 10 rfl rfl)
theorem dX2_theft_13 : decode cX2_theft 13 = .ok (.goto 4, 3) := dk_167 0 4 (dk_at dksX2_theft_0 13 rfl rfl)
theorem dX2_theft_16 : decode cX2_theft 16 = .ok (.iconst (-1), 1) := dk_2 (dk_at dksX2_theft_0 16 rfl rfl)
theorem dX2_theft_17 : decode cX2_theft 17 = .ok (.ireturn, 1) := dk_172 (dk_at dksX2_theft_0 17 rfl rfl)
abbrev MX2_theft : jjM := (yX2_theft, cX2_theft, 2, (Option.some Jvm.ClassFile.FieldType.int))
theorem npX2_theft : yX2_theft.cls ≠ "java/lang/invoke/MethodHandle" ∧ yX2_theft.cls ≠ "java/lang/invoke/VarHandle" ∧ (parseMethodDescriptor yX2_theft.desc).map (fun d => d.parameters.length) = some 1 := by decide +kernel
abbrev cX2_costOf : ByteArray := prog_17_method_131_code
def yX2_costOf : MethodName := ⟨RX2, "costOf", "(I)I"⟩
def dkwX2_costOf_5 : List UInt8 := [167, 0, 4, 3, 96, 62, 132, 4, 1, 132, 5, 1, 167, 255, 202, 29, 172]
abbrev dktX2_costOf_5 : List UInt8 := dkwX2_costOf_5 ++ []
def dkwX2_costOf_4 : List UInt8 := [167, 0, 31, 29, 42, 180, 0, 46, 21, 5, 46, 42, 180, 0, 82, 21, 4, 46, 159, 0, 7, 4]
abbrev dktX2_costOf_4 : List UInt8 := dkwX2_costOf_4 ++ dktX2_costOf_5
def dkwX2_costOf_3 : List UInt8 := [54, 5, 21, 5, 42, 180, 1, 132, 162, 0, 51, 42, 180, 0, 46, 21, 5, 46, 27, 160, 0, 6]
abbrev dktX2_costOf_3 : List UInt8 := dkwX2_costOf_3 ++ dktX2_costOf_4
def dkwX2_costOf_2 : List UInt8 := [167, 255, 233, 42, 28, 2, 182, 1, 144, 42, 182, 1, 147, 156, 0, 5, 2, 172, 3, 62, 3, 54, 4, 3]
abbrev dktX2_costOf_2 : List UInt8 := dkwX2_costOf_2 ++ dktX2_costOf_3
def dkwX2_costOf_1 : List UInt8 := [29, 42, 180, 1, 132, 162, 0, 21, 42, 180, 0, 82, 29, 42, 180, 0, 46, 29, 46, 79, 132, 3, 1]
abbrev dktX2_costOf_1 : List UInt8 := dkwX2_costOf_1 ++ dktX2_costOf_2
def dkwX2_costOf_0 : List UInt8 := [42, 27, 8, 182, 0, 97, 61, 42, 28, 27, 182, 1, 144, 42, 182, 1, 147, 156, 0, 5, 2, 172, 3, 62]
abbrev dktX2_costOf_0 : List UInt8 := dkwX2_costOf_0 ++ dktX2_costOf_1
theorem dksX2_costOf_0 : cX2_costOf.data.toList.drop 0 = dktX2_costOf_0 := by decide +kernel
theorem dksX2_costOf_1 : cX2_costOf.data.toList.drop 24 = dktX2_costOf_1 := dk_seg dksX2_costOf_0 24 rfl rfl
theorem dksX2_costOf_2 : cX2_costOf.data.toList.drop 47 = dktX2_costOf_2 := dk_seg dksX2_costOf_1 23 rfl rfl
theorem dksX2_costOf_3 : cX2_costOf.data.toList.drop 71 = dktX2_costOf_3 := dk_seg dksX2_costOf_2 24 rfl rfl
theorem dksX2_costOf_4 : cX2_costOf.data.toList.drop 93 = dktX2_costOf_4 := dk_seg dksX2_costOf_3 22 rfl rfl
theorem dksX2_costOf_5 : cX2_costOf.data.toList.drop 115 = dktX2_costOf_5 := dk_seg dksX2_costOf_4 22 rfl rfl
theorem dX2_costOf_0 : decode cX2_costOf 0 = .ok (.aload_n 0, 1) := dk_42 (dk_at dksX2_costOf_0 0 rfl rfl)
theorem dX2_costOf_1 : decode cX2_costOf 1 = .ok (.iload_n 1, 1) := dk_27 (dk_at dksX2_costOf_0 1 rfl rfl)
theorem dX2_costOf_2 : decode cX2_costOf 2 = .ok (.iconst 5, 1) := dk_8 (dk_at dksX2_costOf_0 2 rfl rfl)
theorem dX2_costOf_3 : decode cX2_costOf 3 = .ok (.invokevirtual 97, 3) := dk_182 0 97 (dk_at dksX2_costOf_0 3 rfl rfl)
theorem dX2_costOf_6 : decode cX2_costOf 6 = .ok (.istore_n 2, 1) := dk_61 (dk_at dksX2_costOf_0 6 rfl rfl)
theorem dX2_costOf_7 : decode cX2_costOf 7 = .ok (.aload_n 0, 1) := dk_42 (dk_at dksX2_costOf_0 7 rfl rfl)
theorem dX2_costOf_8 : decode cX2_costOf 8 = .ok (.iload_n 2, 1) := dk_28 (dk_at dksX2_costOf_0 8 rfl rfl)
theorem dX2_costOf_9 : decode cX2_costOf 9 = .ok (.iload_n 1, 1) := dk_27 (dk_at dksX2_costOf_0 9 rfl rfl)
theorem dX2_costOf_10 : decode cX2_costOf 10 = .ok (.invokevirtual 400, 3) := dk_182 1 144 (dk_at dksX2_costOf_0 10 rfl rfl)
theorem dX2_costOf_13 : decode cX2_costOf 13 = .ok (.aload_n 0, 1) := dk_42 (dk_at dksX2_costOf_0 13 rfl rfl)
theorem dX2_costOf_14 : decode cX2_costOf 14 = .ok (.invokevirtual 403, 3) := dk_182 1 147 (dk_at dksX2_costOf_0 14 rfl rfl)
theorem dX2_costOf_17 : decode cX2_costOf 17 = .ok (.ifCond .ge 5, 3) := dk_156 0 5 (dk_at dksX2_costOf_0 17 rfl rfl)
theorem dX2_costOf_20 : decode cX2_costOf 20 = .ok (.iconst (-1), 1) := dk_2 (dk_at dksX2_costOf_0 20 rfl rfl)
theorem dX2_costOf_21 : decode cX2_costOf 21 = .ok (.ireturn, 1) := dk_172 (dk_at dksX2_costOf_0 21 rfl rfl)
theorem dX2_costOf_22 : decode cX2_costOf 22 = .ok (.iconst 0, 1) := dk_3 (dk_at dksX2_costOf_0 22 rfl rfl)
theorem dX2_costOf_23 : decode cX2_costOf 23 = .ok (.istore_n 3, 1) := dk_62 (dk_at dksX2_costOf_0 23 rfl rfl)
theorem dX2_costOf_24 : decode cX2_costOf 24 = .ok (.iload_n 3, 1) := dk_29 (dk_at dksX2_costOf_1 0 rfl rfl)
theorem dX2_costOf_25 : decode cX2_costOf 25 = .ok (.aload_n 0, 1) := dk_42 (dk_at dksX2_costOf_1 1 rfl rfl)
theorem dX2_costOf_26 : decode cX2_costOf 26 = .ok (.getfield 388, 3) := dk_180 1 132 (dk_at dksX2_costOf_1 2 rfl rfl)
theorem dX2_costOf_29 : decode cX2_costOf 29 = .ok (.if_icmp .ge 21, 3) := dk_162 0 21 (dk_at dksX2_costOf_1 5 rfl rfl)
theorem dX2_costOf_32 : decode cX2_costOf 32 = .ok (.aload_n 0, 1) := dk_42 (dk_at dksX2_costOf_1 8 rfl rfl)
theorem dX2_costOf_33 : decode cX2_costOf 33 = .ok (.getfield 82, 3) := dk_180 0 82 (dk_at dksX2_costOf_1 9 rfl rfl)
theorem dX2_costOf_36 : decode cX2_costOf 36 = .ok (.iload_n 3, 1) := dk_29 (dk_at dksX2_costOf_1 12 rfl rfl)
theorem dX2_costOf_37 : decode cX2_costOf 37 = .ok (.aload_n 0, 1) := dk_42 (dk_at dksX2_costOf_1 13 rfl rfl)
theorem dX2_costOf_38 : decode cX2_costOf 38 = .ok (.getfield 46, 3) := dk_180 0 46 (dk_at dksX2_costOf_1 14 rfl rfl)
theorem dX2_costOf_41 : decode cX2_costOf 41 = .ok (.iload_n 3, 1) := dk_29 (dk_at dksX2_costOf_1 17 rfl rfl)
theorem dX2_costOf_42 : decode cX2_costOf 42 = .ok (.iaload, 1) := dk_46 (dk_at dksX2_costOf_1 18 rfl rfl)
theorem dX2_costOf_43 : decode cX2_costOf 43 = .ok (.iastore, 1) := dk_79 (dk_at dksX2_costOf_1 19 rfl rfl)
theorem dX2_costOf_44 : decode cX2_costOf 44 = .ok (.iinc 3 1, 3) := dk_132 3 1 (dk_at dksX2_costOf_1 20 rfl rfl)
theorem dX2_costOf_47 : decode cX2_costOf 47 = .ok (.goto (-23), 3) := dk_167 255 233 (dk_at dksX2_costOf_2 0 rfl rfl)
theorem dX2_costOf_50 : decode cX2_costOf 50 = .ok (.aload_n 0, 1) := dk_42 (dk_at dksX2_costOf_2 3 rfl rfl)
theorem dX2_costOf_51 : decode cX2_costOf 51 = .ok (.iload_n 2, 1) := dk_28 (dk_at dksX2_costOf_2 4 rfl rfl)
theorem dX2_costOf_52 : decode cX2_costOf 52 = .ok (.iconst (-1), 1) := dk_2 (dk_at dksX2_costOf_2 5 rfl rfl)
theorem dX2_costOf_53 : decode cX2_costOf 53 = .ok (.invokevirtual 400, 3) := dk_182 1 144 (dk_at dksX2_costOf_2 6 rfl rfl)
theorem dX2_costOf_56 : decode cX2_costOf 56 = .ok (.aload_n 0, 1) := dk_42 (dk_at dksX2_costOf_2 9 rfl rfl)
theorem dX2_costOf_57 : decode cX2_costOf 57 = .ok (.invokevirtual 403, 3) := dk_182 1 147 (dk_at dksX2_costOf_2 10 rfl rfl)
theorem dX2_costOf_60 : decode cX2_costOf 60 = .ok (.ifCond .ge 5, 3) := dk_156 0 5 (dk_at dksX2_costOf_2 13 rfl rfl)
theorem dX2_costOf_63 : decode cX2_costOf 63 = .ok (.iconst (-1), 1) := dk_2 (dk_at dksX2_costOf_2 16 rfl rfl)
theorem dX2_costOf_64 : decode cX2_costOf 64 = .ok (.ireturn, 1) := dk_172 (dk_at dksX2_costOf_2 17 rfl rfl)
theorem dX2_costOf_65 : decode cX2_costOf 65 = .ok (.iconst 0, 1) := dk_3 (dk_at dksX2_costOf_2 18 rfl rfl)
theorem dX2_costOf_66 : decode cX2_costOf 66 = .ok (.istore_n 3, 1) := dk_62 (dk_at dksX2_costOf_2 19 rfl rfl)
theorem dX2_costOf_67 : decode cX2_costOf 67 = .ok (.iconst 0, 1) := dk_3 (dk_at dksX2_costOf_2 20 rfl rfl)
theorem dX2_costOf_68 : decode cX2_costOf 68 = .ok (.istore 4, 2) := dk_54 4 (dk_at dksX2_costOf_2 21 rfl rfl)
theorem dX2_costOf_70 : decode cX2_costOf 70 = .ok (.iconst 0, 1) := dk_3 (dk_at dksX2_costOf_2 23 rfl rfl)
theorem dX2_costOf_71 : decode cX2_costOf 71 = .ok (.istore 5, 2) := dk_54 5 (dk_at dksX2_costOf_3 0 rfl rfl)
theorem dX2_costOf_73 : decode cX2_costOf 73 = .ok (.iload 5, 2) := dk_21 5 (dk_at dksX2_costOf_3 2 rfl rfl)
theorem dX2_costOf_75 : decode cX2_costOf 75 = .ok (.aload_n 0, 1) := dk_42 (dk_at dksX2_costOf_3 4 rfl rfl)
theorem dX2_costOf_76 : decode cX2_costOf 76 = .ok (.getfield 388, 3) := dk_180 1 132 (dk_at dksX2_costOf_3 5 rfl rfl)
theorem dX2_costOf_79 : decode cX2_costOf 79 = .ok (.if_icmp .ge 51, 3) := dk_162 0 51 (dk_at dksX2_costOf_3 8 rfl rfl)
theorem dX2_costOf_82 : decode cX2_costOf 82 = .ok (.aload_n 0, 1) := dk_42 (dk_at dksX2_costOf_3 11 rfl rfl)
theorem dX2_costOf_83 : decode cX2_costOf 83 = .ok (.getfield 46, 3) := dk_180 0 46 (dk_at dksX2_costOf_3 12 rfl rfl)
theorem dX2_costOf_86 : decode cX2_costOf 86 = .ok (.iload 5, 2) := dk_21 5 (dk_at dksX2_costOf_3 15 rfl rfl)
theorem dX2_costOf_88 : decode cX2_costOf 88 = .ok (.iaload, 1) := dk_46 (dk_at dksX2_costOf_3 17 rfl rfl)
theorem dX2_costOf_89 : decode cX2_costOf 89 = .ok (.iload_n 1, 1) := dk_27 (dk_at dksX2_costOf_3 18 rfl rfl)
theorem dX2_costOf_90 : decode cX2_costOf 90 = .ok (.if_icmp .ne 6, 3) := dk_160 0 6 (dk_at dksX2_costOf_3 19 rfl rfl)
theorem dX2_costOf_93 : decode cX2_costOf 93 = .ok (.goto 31, 3) := dk_167 0 31 (dk_at dksX2_costOf_4 0 rfl rfl)
theorem dX2_costOf_96 : decode cX2_costOf 96 = .ok (.iload_n 3, 1) := dk_29 (dk_at dksX2_costOf_4 3 rfl rfl)
theorem dX2_costOf_97 : decode cX2_costOf 97 = .ok (.aload_n 0, 1) := dk_42 (dk_at dksX2_costOf_4 4 rfl rfl)
theorem dX2_costOf_98 : decode cX2_costOf 98 = .ok (.getfield 46, 3) := dk_180 0 46 (dk_at dksX2_costOf_4 5 rfl rfl)
theorem dX2_costOf_101 : decode cX2_costOf 101 = .ok (.iload 5, 2) := dk_21 5 (dk_at dksX2_costOf_4 8 rfl rfl)
theorem dX2_costOf_103 : decode cX2_costOf 103 = .ok (.iaload, 1) := dk_46 (dk_at dksX2_costOf_4 10 rfl rfl)
theorem dX2_costOf_104 : decode cX2_costOf 104 = .ok (.aload_n 0, 1) := dk_42 (dk_at dksX2_costOf_4 11 rfl rfl)
theorem dX2_costOf_105 : decode cX2_costOf 105 = .ok (.getfield 82, 3) := dk_180 0 82 (dk_at dksX2_costOf_4 12 rfl rfl)
theorem dX2_costOf_108 : decode cX2_costOf 108 = .ok (.iload 4, 2) := dk_21 4 (dk_at dksX2_costOf_4 15 rfl rfl)
theorem dX2_costOf_110 : decode cX2_costOf 110 = .ok (.iaload, 1) := dk_46 (dk_at dksX2_costOf_4 17 rfl rfl)
theorem dX2_costOf_111 : decode cX2_costOf 111 = .ok (.if_icmp .eq 7, 3) := dk_159 0 7 (dk_at dksX2_costOf_4 18 rfl rfl)
theorem dX2_costOf_114 : decode cX2_costOf 114 = .ok (.iconst 1, 1) := dk_4 (dk_at dksX2_costOf_4 21 rfl rfl)
theorem dX2_costOf_115 : decode cX2_costOf 115 = .ok (.goto 4, 3) := dk_167 0 4 (dk_at dksX2_costOf_5 0 rfl rfl)
theorem dX2_costOf_118 : decode cX2_costOf 118 = .ok (.iconst 0, 1) := dk_3 (dk_at dksX2_costOf_5 3 rfl rfl)
theorem dX2_costOf_119 : decode cX2_costOf 119 = .ok (.iadd, 1) := dk_96 (dk_at dksX2_costOf_5 4 rfl rfl)
theorem dX2_costOf_120 : decode cX2_costOf 120 = .ok (.istore_n 3, 1) := dk_62 (dk_at dksX2_costOf_5 5 rfl rfl)
theorem dX2_costOf_121 : decode cX2_costOf 121 = .ok (.iinc 4 1, 3) := dk_132 4 1 (dk_at dksX2_costOf_5 6 rfl rfl)
theorem dX2_costOf_124 : decode cX2_costOf 124 = .ok (.iinc 5 1, 3) := dk_132 5 1 (dk_at dksX2_costOf_5 9 rfl rfl)
theorem dX2_costOf_127 : decode cX2_costOf 127 = .ok (.goto (-54), 3) := dk_167 255 202 (dk_at dksX2_costOf_5 12 rfl rfl)
theorem dX2_costOf_130 : decode cX2_costOf 130 = .ok (.iload_n 3, 1) := dk_29 (dk_at dksX2_costOf_5 15 rfl rfl)
theorem dX2_costOf_131 : decode cX2_costOf 131 = .ok (.ireturn, 1) := dk_172 (dk_at dksX2_costOf_5 16 rfl rfl)
abbrev MX2_costOf : jjM := (yX2_costOf, cX2_costOf, 6, (Option.some Jvm.ClassFile.FieldType.int))
theorem npX2_costOf : yX2_costOf.cls ≠ "java/lang/invoke/MethodHandle" ∧ yX2_costOf.cls ≠ "java/lang/invoke/VarHandle" ∧ (parseMethodDescriptor yX2_costOf.desc).map (fun d => d.parameters.length) = some 1 := by decide +kernel
abbrev cX2_cheapest : ByteArray := prog_17_method_133_code
def yX2_cheapest : MethodName := ⟨RX2, "cheapest", "(I)I"⟩
def dkwX2_cheapest_3 : List UInt8 := [62, 132, 4, 1, 167, 255, 200, 28, 172]
abbrev dktX2_cheapest_3 : List UInt8 := dkwX2_cheapest_3 ++ []
def dkwX2_cheapest_2 : List UInt8 := [182, 1, 229, 54, 5, 21, 5, 155, 0, 18, 21, 5, 29, 161, 0, 6, 167, 0, 9, 21, 4, 61, 21, 5]
abbrev dktX2_cheapest_2 : List UInt8 := dkwX2_cheapest_2 ++ dktX2_cheapest_3
def dkwX2_cheapest_1 : List UInt8 := [3, 46, 162, 0, 51, 42, 21, 4, 8, 182, 0, 97, 27, 159, 0, 6, 167, 0, 31, 42, 21, 4]
abbrev dktX2_cheapest_1 : List UInt8 := dkwX2_cheapest_1 ++ dktX2_cheapest_2
def dkwX2_cheapest_0 : List UInt8 := [27, 184, 1, 54, 154, 0, 5, 2, 172, 2, 61, 19, 1, 232, 62, 3, 54, 4, 21, 4, 42, 180, 0, 7]
abbrev dktX2_cheapest_0 : List UInt8 := dkwX2_cheapest_0 ++ dktX2_cheapest_1
theorem dksX2_cheapest_0 : cX2_cheapest.data.toList.drop 0 = dktX2_cheapest_0 := by decide +kernel
theorem dksX2_cheapest_1 : cX2_cheapest.data.toList.drop 24 = dktX2_cheapest_1 := dk_seg dksX2_cheapest_0 24 rfl rfl
theorem dksX2_cheapest_2 : cX2_cheapest.data.toList.drop 46 = dktX2_cheapest_2 := dk_seg dksX2_cheapest_1 22 rfl rfl
theorem dksX2_cheapest_3 : cX2_cheapest.data.toList.drop 70 = dktX2_cheapest_3 := dk_seg dksX2_cheapest_2 24 rfl rfl
theorem dX2_cheapest_0 : decode cX2_cheapest 0 = .ok (.iload_n 1, 1) := dk_27 (dk_at dksX2_cheapest_0 0 rfl rfl)
theorem dX2_cheapest_1 : decode cX2_cheapest 1 = .ok (.invokestatic 310, 3) := dk_184 1 54 (dk_at dksX2_cheapest_0 1 rfl rfl)
theorem dX2_cheapest_4 : decode cX2_cheapest 4 = .ok (.ifCond .ne 5, 3) := dk_154 0 5 (dk_at dksX2_cheapest_0 4 rfl rfl)
theorem dX2_cheapest_7 : decode cX2_cheapest 7 = .ok (.iconst (-1), 1) := dk_2 (dk_at dksX2_cheapest_0 7 rfl rfl)
theorem dX2_cheapest_8 : decode cX2_cheapest 8 = .ok (.ireturn, 1) := dk_172 (dk_at dksX2_cheapest_0 8 rfl rfl)
theorem dX2_cheapest_9 : decode cX2_cheapest 9 = .ok (.iconst (-1), 1) := dk_2 (dk_at dksX2_cheapest_0 9 rfl rfl)
theorem dX2_cheapest_10 : decode cX2_cheapest 10 = .ok (.istore_n 2, 1) := dk_61 (dk_at dksX2_cheapest_0 10 rfl rfl)
theorem dX2_cheapest_11 : decode cX2_cheapest 11 = .ok (.ldc_w 488, 3) := dk_19 1 232 (dk_at dksX2_cheapest_0 11 rfl rfl)
theorem dX2_cheapest_14 : decode cX2_cheapest 14 = .ok (.istore_n 3, 1) := dk_62 (dk_at dksX2_cheapest_0 14 rfl rfl)
theorem dX2_cheapest_15 : decode cX2_cheapest 15 = .ok (.iconst 0, 1) := dk_3 (dk_at dksX2_cheapest_0 15 rfl rfl)
theorem dX2_cheapest_16 : decode cX2_cheapest 16 = .ok (.istore 4, 2) := dk_54 4 (dk_at dksX2_cheapest_0 16 rfl rfl)
theorem dX2_cheapest_18 : decode cX2_cheapest 18 = .ok (.iload 4, 2) := dk_21 4 (dk_at dksX2_cheapest_0 18 rfl rfl)
theorem dX2_cheapest_20 : decode cX2_cheapest 20 = .ok (.aload_n 0, 1) := dk_42 (dk_at dksX2_cheapest_0 20 rfl rfl)
theorem dX2_cheapest_21 : decode cX2_cheapest 21 = .ok (.getfield 7, 3) := dk_180 0 7 (dk_at dksX2_cheapest_0 21 rfl rfl)
theorem dX2_cheapest_24 : decode cX2_cheapest 24 = .ok (.iconst 0, 1) := dk_3 (dk_at dksX2_cheapest_1 0 rfl rfl)
theorem dX2_cheapest_25 : decode cX2_cheapest 25 = .ok (.iaload, 1) := dk_46 (dk_at dksX2_cheapest_1 1 rfl rfl)
theorem dX2_cheapest_26 : decode cX2_cheapest 26 = .ok (.if_icmp .ge 51, 3) := dk_162 0 51 (dk_at dksX2_cheapest_1 2 rfl rfl)
theorem dX2_cheapest_29 : decode cX2_cheapest 29 = .ok (.aload_n 0, 1) := dk_42 (dk_at dksX2_cheapest_1 5 rfl rfl)
theorem dX2_cheapest_30 : decode cX2_cheapest 30 = .ok (.iload 4, 2) := dk_21 4 (dk_at dksX2_cheapest_1 6 rfl rfl)
theorem dX2_cheapest_32 : decode cX2_cheapest 32 = .ok (.iconst 5, 1) := dk_8 (dk_at dksX2_cheapest_1 8 rfl rfl)
theorem dX2_cheapest_33 : decode cX2_cheapest 33 = .ok (.invokevirtual 97, 3) := dk_182 0 97 (dk_at dksX2_cheapest_1 9 rfl rfl)
theorem dX2_cheapest_36 : decode cX2_cheapest 36 = .ok (.iload_n 1, 1) := dk_27 (dk_at dksX2_cheapest_1 12 rfl rfl)
theorem dX2_cheapest_37 : decode cX2_cheapest 37 = .ok (.if_icmp .eq 6, 3) := dk_159 0 6 (dk_at dksX2_cheapest_1 13 rfl rfl)
theorem dX2_cheapest_40 : decode cX2_cheapest 40 = .ok (.goto 31, 3) := dk_167 0 31 (dk_at dksX2_cheapest_1 16 rfl rfl)
theorem dX2_cheapest_43 : decode cX2_cheapest 43 = .ok (.aload_n 0, 1) := dk_42 (dk_at dksX2_cheapest_1 19 rfl rfl)
theorem dX2_cheapest_44 : decode cX2_cheapest 44 = .ok (.iload 4, 2) := dk_21 4 (dk_at dksX2_cheapest_1 20 rfl rfl)
theorem dX2_cheapest_46 : decode cX2_cheapest 46 = .ok (.invokevirtual 485, 3) := dk_182 1 229 (dk_at dksX2_cheapest_2 0 rfl rfl)
theorem dX2_cheapest_49 : decode cX2_cheapest 49 = .ok (.istore 5, 2) := dk_54 5 (dk_at dksX2_cheapest_2 3 rfl rfl)
theorem dX2_cheapest_51 : decode cX2_cheapest 51 = .ok (.iload 5, 2) := dk_21 5 (dk_at dksX2_cheapest_2 5 rfl rfl)
theorem dX2_cheapest_53 : decode cX2_cheapest 53 = .ok (.ifCond .lt 18, 3) := dk_155 0 18 (dk_at dksX2_cheapest_2 7 rfl rfl)
theorem dX2_cheapest_56 : decode cX2_cheapest 56 = .ok (.iload 5, 2) := dk_21 5 (dk_at dksX2_cheapest_2 10 rfl rfl)
theorem dX2_cheapest_58 : decode cX2_cheapest 58 = .ok (.iload_n 3, 1) := dk_29 (dk_at dksX2_cheapest_2 12 rfl rfl)
theorem dX2_cheapest_59 : decode cX2_cheapest 59 = .ok (.if_icmp .lt 6, 3) := dk_161 0 6 (dk_at dksX2_cheapest_2 13 rfl rfl)
theorem dX2_cheapest_62 : decode cX2_cheapest 62 = .ok (.goto 9, 3) := dk_167 0 9 (dk_at dksX2_cheapest_2 16 rfl rfl)
theorem dX2_cheapest_65 : decode cX2_cheapest 65 = .ok (.iload 4, 2) := dk_21 4 (dk_at dksX2_cheapest_2 19 rfl rfl)
theorem dX2_cheapest_67 : decode cX2_cheapest 67 = .ok (.istore_n 2, 1) := dk_61 (dk_at dksX2_cheapest_2 21 rfl rfl)
theorem dX2_cheapest_68 : decode cX2_cheapest 68 = .ok (.iload 5, 2) := dk_21 5 (dk_at dksX2_cheapest_2 22 rfl rfl)
theorem dX2_cheapest_70 : decode cX2_cheapest 70 = .ok (.istore_n 3, 1) := dk_62 (dk_at dksX2_cheapest_3 0 rfl rfl)
theorem dX2_cheapest_71 : decode cX2_cheapest 71 = .ok (.iinc 4 1, 3) := dk_132 4 1 (dk_at dksX2_cheapest_3 1 rfl rfl)
theorem dX2_cheapest_74 : decode cX2_cheapest 74 = .ok (.goto (-56), 3) := dk_167 255 200 (dk_at dksX2_cheapest_3 4 rfl rfl)
theorem dX2_cheapest_77 : decode cX2_cheapest 77 = .ok (.iload_n 2, 1) := dk_28 (dk_at dksX2_cheapest_3 7 rfl rfl)
theorem dX2_cheapest_78 : decode cX2_cheapest 78 = .ok (.ireturn, 1) := dk_172 (dk_at dksX2_cheapest_3 8 rfl rfl)
abbrev MX2_cheapest : jjM := (yX2_cheapest, cX2_cheapest, 6, (Option.some Jvm.ClassFile.FieldType.int))
theorem npX2_cheapest : yX2_cheapest.cls ≠ "java/lang/invoke/MethodHandle" ∧ yX2_cheapest.cls ≠ "java/lang/invoke/VarHandle" ∧ (parseMethodDescriptor yX2_cheapest.desc).map (fun d => d.parameters.length) = some 1 := by decide +kernel
abbrev cX2_dust : ByteArray := prog_17_method_134_code
def yX2_dust : MethodName := ⟨RX2, "dust", "(IIZZ)I"⟩
def dkwX2_dust_5 : List UInt8 := [42, 180, 0, 7, 16, 8, 92, 46, 4, 96, 79, 42, 180, 0, 7, 16, 8, 46, 172]
abbrev dktX2_dust_5 : List UInt8 := dkwX2_dust_5 ++ []
def dkwX2_dust_4 : List UInt8 := [167, 0, 4, 3, 79, 42, 180, 0, 7, 21, 5, 6, 96, 21, 4, 153, 0, 7, 4, 167, 0, 4, 3, 79]
abbrev dktX2_dust_4 : List UInt8 := dkwX2_dust_4 ++ dktX2_dust_5
def dkwX2_dust_3 : List UInt8 := [79, 42, 180, 0, 7, 21, 5, 4, 96, 28, 79, 42, 180, 0, 7, 21, 5, 5, 96, 29, 153, 0, 7, 4]
abbrev dktX2_dust_3 : List UInt8 := dkwX2_dust_3 ++ dktX2_dust_4
def dkwX2_dust_2 : List UInt8 := [16, 254, 172, 16, 106, 7, 42, 180, 0, 7, 16, 8, 46, 104, 96, 54, 5, 42, 180, 0, 7, 21, 5, 27]
abbrev dktX2_dust_2 : List UInt8 := dkwX2_dust_2 ++ dktX2_dust_3
def dkwX2_dust_1 : List UInt8 := [28, 182, 0, 93, 153, 0, 20, 27, 28, 159, 0, 15, 42, 180, 0, 7, 16, 8, 46, 16, 12, 160, 0, 6]
abbrev dktX2_dust_1 : List UInt8 := dkwX2_dust_1 ++ dktX2_dust_2
def dkwX2_dust_0 : List UInt8 := [27, 2, 160, 0, 13, 42, 180, 0, 7, 16, 8, 3, 79, 3, 172, 42, 27, 182, 0, 93, 153, 0, 28, 42]
abbrev dktX2_dust_0 : List UInt8 := dkwX2_dust_0 ++ dktX2_dust_1
theorem dksX2_dust_0 : cX2_dust.data.toList.drop 0 = dktX2_dust_0 := by decide +kernel
theorem dksX2_dust_1 : cX2_dust.data.toList.drop 24 = dktX2_dust_1 := dk_seg dksX2_dust_0 24 rfl rfl
theorem dksX2_dust_2 : cX2_dust.data.toList.drop 48 = dktX2_dust_2 := dk_seg dksX2_dust_1 24 rfl rfl
theorem dksX2_dust_3 : cX2_dust.data.toList.drop 72 = dktX2_dust_3 := dk_seg dksX2_dust_2 24 rfl rfl
theorem dksX2_dust_4 : cX2_dust.data.toList.drop 96 = dktX2_dust_4 := dk_seg dksX2_dust_3 24 rfl rfl
theorem dksX2_dust_5 : cX2_dust.data.toList.drop 120 = dktX2_dust_5 := dk_seg dksX2_dust_4 24 rfl rfl
theorem dX2_dust_0 : decode cX2_dust 0 = .ok (.iload_n 1, 1) := dk_27 (dk_at dksX2_dust_0 0 rfl rfl)
theorem dX2_dust_1 : decode cX2_dust 1 = .ok (.iconst (-1), 1) := dk_2 (dk_at dksX2_dust_0 1 rfl rfl)
theorem dX2_dust_2 : decode cX2_dust 2 = .ok (.if_icmp .ne 13, 3) := dk_160 0 13 (dk_at dksX2_dust_0 2 rfl rfl)
theorem dX2_dust_5 : decode cX2_dust 5 = .ok (.aload_n 0, 1) := dk_42 (dk_at dksX2_dust_0 5 rfl rfl)
theorem dX2_dust_6 : decode cX2_dust 6 = .ok (.getfield 7, 3) := dk_180 0 7 (dk_at dksX2_dust_0 6 rfl rfl)
theorem dX2_dust_9 : decode cX2_dust 9 = .ok (.bipush 8, 2) := dk_16 8 (dk_at dksX2_dust_0 9 rfl rfl)
theorem dX2_dust_11 : decode cX2_dust 11 = .ok (.iconst 0, 1) := dk_3 (dk_at dksX2_dust_0 11 rfl rfl)
theorem dX2_dust_12 : decode cX2_dust 12 = .ok (.iastore, 1) := dk_79 (dk_at dksX2_dust_0 12 rfl rfl)
theorem dX2_dust_13 : decode cX2_dust 13 = .ok (.iconst 0, 1) := dk_3 (dk_at dksX2_dust_0 13 rfl rfl)
theorem dX2_dust_14 : decode cX2_dust 14 = .ok (.ireturn, 1) := dk_172 (dk_at dksX2_dust_0 14 rfl rfl)
theorem dX2_dust_15 : decode cX2_dust 15 = .ok (.aload_n 0, 1) := dk_42 (dk_at dksX2_dust_0 15 rfl rfl)
theorem dX2_dust_16 : decode cX2_dust 16 = .ok (.iload_n 1, 1) := dk_27 (dk_at dksX2_dust_0 16 rfl rfl)
theorem dX2_dust_17 : decode cX2_dust 17 = .ok (.invokevirtual 93, 3) := dk_182 0 93 (dk_at dksX2_dust_0 17 rfl rfl)
theorem dX2_dust_20 : decode cX2_dust 20 = .ok (.ifCond .eq 28, 3) := dk_153 0 28 (dk_at dksX2_dust_0 20 rfl rfl)
theorem dX2_dust_23 : decode cX2_dust 23 = .ok (.aload_n 0, 1) := dk_42 (dk_at dksX2_dust_0 23 rfl rfl)
theorem dX2_dust_24 : decode cX2_dust 24 = .ok (.iload_n 2, 1) := dk_28 (dk_at dksX2_dust_1 0 rfl rfl)
theorem dX2_dust_25 : decode cX2_dust 25 = .ok (.invokevirtual 93, 3) := dk_182 0 93 (dk_at dksX2_dust_1 1 rfl rfl)
theorem dX2_dust_28 : decode cX2_dust 28 = .ok (.ifCond .eq 20, 3) := dk_153 0 20 (dk_at dksX2_dust_1 4 rfl rfl)
theorem dX2_dust_31 : decode cX2_dust 31 = .ok (.iload_n 1, 1) := dk_27 (dk_at dksX2_dust_1 7 rfl rfl)
theorem dX2_dust_32 : decode cX2_dust 32 = .ok (.iload_n 2, 1) := dk_28 (dk_at dksX2_dust_1 8 rfl rfl)
theorem dX2_dust_33 : decode cX2_dust 33 = .ok (.if_icmp .eq 15, 3) := dk_159 0 15 (dk_at dksX2_dust_1 9 rfl rfl)
theorem dX2_dust_36 : decode cX2_dust 36 = .ok (.aload_n 0, 1) := dk_42 (dk_at dksX2_dust_1 12 rfl rfl)
theorem dX2_dust_37 : decode cX2_dust 37 = .ok (.getfield 7, 3) := dk_180 0 7 (dk_at dksX2_dust_1 13 rfl rfl)
theorem dX2_dust_40 : decode cX2_dust 40 = .ok (.bipush 8, 2) := dk_16 8 (dk_at dksX2_dust_1 16 rfl rfl)
theorem dX2_dust_42 : decode cX2_dust 42 = .ok (.iaload, 1) := dk_46 (dk_at dksX2_dust_1 18 rfl rfl)
theorem dX2_dust_43 : decode cX2_dust 43 = .ok (.bipush 12, 2) := dk_16 12 (dk_at dksX2_dust_1 19 rfl rfl)
theorem dX2_dust_45 : decode cX2_dust 45 = .ok (.if_icmp .ne 6, 3) := dk_160 0 6 (dk_at dksX2_dust_1 21 rfl rfl)
theorem dX2_dust_48 : decode cX2_dust 48 = .ok (.bipush (-2), 2) := dk_16 254 (dk_at dksX2_dust_2 0 rfl rfl)
theorem dX2_dust_50 : decode cX2_dust 50 = .ok (.ireturn, 1) := dk_172 (dk_at dksX2_dust_2 2 rfl rfl)
theorem dX2_dust_51 : decode cX2_dust 51 = .ok (.bipush 106, 2) := dk_16 106 (dk_at dksX2_dust_2 3 rfl rfl)
theorem dX2_dust_53 : decode cX2_dust 53 = .ok (.iconst 4, 1) := dk_7 (dk_at dksX2_dust_2 5 rfl rfl)
theorem dX2_dust_54 : decode cX2_dust 54 = .ok (.aload_n 0, 1) := dk_42 (dk_at dksX2_dust_2 6 rfl rfl)
theorem dX2_dust_55 : decode cX2_dust 55 = .ok (.getfield 7, 3) := dk_180 0 7 (dk_at dksX2_dust_2 7 rfl rfl)
theorem dX2_dust_58 : decode cX2_dust 58 = .ok (.bipush 8, 2) := dk_16 8 (dk_at dksX2_dust_2 10 rfl rfl)
theorem dX2_dust_60 : decode cX2_dust 60 = .ok (.iaload, 1) := dk_46 (dk_at dksX2_dust_2 12 rfl rfl)
theorem dX2_dust_61 : decode cX2_dust 61 = .ok (.imul, 1) := dk_104 (dk_at dksX2_dust_2 13 rfl rfl)
theorem dX2_dust_62 : decode cX2_dust 62 = .ok (.iadd, 1) := dk_96 (dk_at dksX2_dust_2 14 rfl rfl)
theorem dX2_dust_63 : decode cX2_dust 63 = .ok (.istore 5, 2) := dk_54 5 (dk_at dksX2_dust_2 15 rfl rfl)
theorem dX2_dust_65 : decode cX2_dust 65 = .ok (.aload_n 0, 1) := dk_42 (dk_at dksX2_dust_2 17 rfl rfl)
theorem dX2_dust_66 : decode cX2_dust 66 = .ok (.getfield 7, 3) := dk_180 0 7 (dk_at dksX2_dust_2 18 rfl rfl)
theorem dX2_dust_69 : decode cX2_dust 69 = .ok (.iload 5, 2) := dk_21 5 (dk_at dksX2_dust_2 21 rfl rfl)
theorem dX2_dust_71 : decode cX2_dust 71 = .ok (.iload_n 1, 1) := dk_27 (dk_at dksX2_dust_2 23 rfl rfl)
theorem dX2_dust_72 : decode cX2_dust 72 = .ok (.iastore, 1) := dk_79 (dk_at dksX2_dust_3 0 rfl rfl)
theorem dX2_dust_73 : decode cX2_dust 73 = .ok (.aload_n 0, 1) := dk_42 (dk_at dksX2_dust_3 1 rfl rfl)
theorem dX2_dust_74 : decode cX2_dust 74 = .ok (.getfield 7, 3) := dk_180 0 7 (dk_at dksX2_dust_3 2 rfl rfl)
theorem dX2_dust_77 : decode cX2_dust 77 = .ok (.iload 5, 2) := dk_21 5 (dk_at dksX2_dust_3 5 rfl rfl)
theorem dX2_dust_79 : decode cX2_dust 79 = .ok (.iconst 1, 1) := dk_4 (dk_at dksX2_dust_3 7 rfl rfl)
theorem dX2_dust_80 : decode cX2_dust 80 = .ok (.iadd, 1) := dk_96 (dk_at dksX2_dust_3 8 rfl rfl)
theorem dX2_dust_81 : decode cX2_dust 81 = .ok (.iload_n 2, 1) := dk_28 (dk_at dksX2_dust_3 9 rfl rfl)
theorem dX2_dust_82 : decode cX2_dust 82 = .ok (.iastore, 1) := dk_79 (dk_at dksX2_dust_3 10 rfl rfl)
theorem dX2_dust_83 : decode cX2_dust 83 = .ok (.aload_n 0, 1) := dk_42 (dk_at dksX2_dust_3 11 rfl rfl)
theorem dX2_dust_84 : decode cX2_dust 84 = .ok (.getfield 7, 3) := dk_180 0 7 (dk_at dksX2_dust_3 12 rfl rfl)
theorem dX2_dust_87 : decode cX2_dust 87 = .ok (.iload 5, 2) := dk_21 5 (dk_at dksX2_dust_3 15 rfl rfl)
theorem dX2_dust_89 : decode cX2_dust 89 = .ok (.iconst 2, 1) := dk_5 (dk_at dksX2_dust_3 17 rfl rfl)
theorem dX2_dust_90 : decode cX2_dust 90 = .ok (.iadd, 1) := dk_96 (dk_at dksX2_dust_3 18 rfl rfl)
theorem dX2_dust_91 : decode cX2_dust 91 = .ok (.iload_n 3, 1) := dk_29 (dk_at dksX2_dust_3 19 rfl rfl)
theorem dX2_dust_92 : decode cX2_dust 92 = .ok (.ifCond .eq 7, 3) := dk_153 0 7 (dk_at dksX2_dust_3 20 rfl rfl)
theorem dX2_dust_95 : decode cX2_dust 95 = .ok (.iconst 1, 1) := dk_4 (dk_at dksX2_dust_3 23 rfl rfl)
theorem dX2_dust_96 : decode cX2_dust 96 = .ok (.goto 4, 3) := dk_167 0 4 (dk_at dksX2_dust_4 0 rfl rfl)
theorem dX2_dust_99 : decode cX2_dust 99 = .ok (.iconst 0, 1) := dk_3 (dk_at dksX2_dust_4 3 rfl rfl)
theorem dX2_dust_100 : decode cX2_dust 100 = .ok (.iastore, 1) := dk_79 (dk_at dksX2_dust_4 4 rfl rfl)
theorem dX2_dust_101 : decode cX2_dust 101 = .ok (.aload_n 0, 1) := dk_42 (dk_at dksX2_dust_4 5 rfl rfl)
theorem dX2_dust_102 : decode cX2_dust 102 = .ok (.getfield 7, 3) := dk_180 0 7 (dk_at dksX2_dust_4 6 rfl rfl)
theorem dX2_dust_105 : decode cX2_dust 105 = .ok (.iload 5, 2) := dk_21 5 (dk_at dksX2_dust_4 9 rfl rfl)
theorem dX2_dust_107 : decode cX2_dust 107 = .ok (.iconst 3, 1) := dk_6 (dk_at dksX2_dust_4 11 rfl rfl)
theorem dX2_dust_108 : decode cX2_dust 108 = .ok (.iadd, 1) := dk_96 (dk_at dksX2_dust_4 12 rfl rfl)
theorem dX2_dust_109 : decode cX2_dust 109 = .ok (.iload 4, 2) := dk_21 4 (dk_at dksX2_dust_4 13 rfl rfl)
theorem dX2_dust_111 : decode cX2_dust 111 = .ok (.ifCond .eq 7, 3) := dk_153 0 7 (dk_at dksX2_dust_4 15 rfl rfl)
theorem dX2_dust_114 : decode cX2_dust 114 = .ok (.iconst 1, 1) := dk_4 (dk_at dksX2_dust_4 18 rfl rfl)
theorem dX2_dust_115 : decode cX2_dust 115 = .ok (.goto 4, 3) := dk_167 0 4 (dk_at dksX2_dust_4 19 rfl rfl)
theorem dX2_dust_118 : decode cX2_dust 118 = .ok (.iconst 0, 1) := dk_3 (dk_at dksX2_dust_4 22 rfl rfl)
theorem dX2_dust_119 : decode cX2_dust 119 = .ok (.iastore, 1) := dk_79 (dk_at dksX2_dust_4 23 rfl rfl)
theorem dX2_dust_120 : decode cX2_dust 120 = .ok (.aload_n 0, 1) := dk_42 (dk_at dksX2_dust_5 0 rfl rfl)
theorem dX2_dust_121 : decode cX2_dust 121 = .ok (.getfield 7, 3) := dk_180 0 7 (dk_at dksX2_dust_5 1 rfl rfl)
theorem dX2_dust_124 : decode cX2_dust 124 = .ok (.bipush 8, 2) := dk_16 8 (dk_at dksX2_dust_5 4 rfl rfl)
theorem dX2_dust_126 : decode cX2_dust 126 = .ok (.dup2, 1) := dk_92 (dk_at dksX2_dust_5 6 rfl rfl)
theorem dX2_dust_127 : decode cX2_dust 127 = .ok (.iaload, 1) := dk_46 (dk_at dksX2_dust_5 7 rfl rfl)
theorem dX2_dust_128 : decode cX2_dust 128 = .ok (.iconst 1, 1) := dk_4 (dk_at dksX2_dust_5 8 rfl rfl)
theorem dX2_dust_129 : decode cX2_dust 129 = .ok (.iadd, 1) := dk_96 (dk_at dksX2_dust_5 9 rfl rfl)
theorem dX2_dust_130 : decode cX2_dust 130 = .ok (.iastore, 1) := dk_79 (dk_at dksX2_dust_5 10 rfl rfl)
theorem dX2_dust_131 : decode cX2_dust 131 = .ok (.aload_n 0, 1) := dk_42 (dk_at dksX2_dust_5 11 rfl rfl)
theorem dX2_dust_132 : decode cX2_dust 132 = .ok (.getfield 7, 3) := dk_180 0 7 (dk_at dksX2_dust_5 12 rfl rfl)
theorem dX2_dust_135 : decode cX2_dust 135 = .ok (.bipush 8, 2) := dk_16 8 (dk_at dksX2_dust_5 15 rfl rfl)
theorem dX2_dust_137 : decode cX2_dust 137 = .ok (.iaload, 1) := dk_46 (dk_at dksX2_dust_5 17 rfl rfl)
theorem dX2_dust_138 : decode cX2_dust 138 = .ok (.ireturn, 1) := dk_172 (dk_at dksX2_dust_5 18 rfl rfl)
abbrev MX2_dust : jjM := (yX2_dust, cX2_dust, 6, (Option.some Jvm.ClassFile.FieldType.int))
theorem npX2_dust : yX2_dust.cls ≠ "java/lang/invoke/MethodHandle" ∧ yX2_dust.cls ≠ "java/lang/invoke/VarHandle" ∧ (parseMethodDescriptor yX2_dust.desc).map (fun d => d.parameters.length) = some 4 := by decide +kernel
abbrev cX2_laws : ByteArray := prog_17_method_137_code
def yX2_laws : MethodName := ⟨RX2, "laws", "(I)I"⟩
def dkwX2_laws_0 : List UInt8 := [42, 27, 182, 0, 93, 153, 0, 11, 42, 27, 182, 1, 236, 167, 0, 4, 2, 172]
abbrev dktX2_laws_0 : List UInt8 := dkwX2_laws_0 ++ []
theorem dksX2_laws_0 : cX2_laws.data.toList.drop 0 = dktX2_laws_0 := by decide +kernel
theorem dX2_laws_0 : decode cX2_laws 0 = .ok (.aload_n 0, 1) := dk_42 (dk_at dksX2_laws_0 0 rfl rfl)
theorem dX2_laws_1 : decode cX2_laws 1 = .ok (.iload_n 1, 1) := dk_27 (dk_at dksX2_laws_0 1 rfl rfl)
theorem dX2_laws_2 : decode cX2_laws 2 = .ok (.invokevirtual 93, 3) := dk_182 0 93 (dk_at dksX2_laws_0 2 rfl rfl)
theorem dX2_laws_5 : decode cX2_laws 5 = .ok (.ifCond .eq 11, 3) := dk_153 0 11 (dk_at dksX2_laws_0 5 rfl rfl)
theorem dX2_laws_8 : decode cX2_laws 8 = .ok (.aload_n 0, 1) := dk_42 (dk_at dksX2_laws_0 8 rfl rfl)
theorem dX2_laws_9 : decode cX2_laws 9 = .ok (.iload_n 1, 1) := dk_27 (dk_at dksX2_laws_0 9 rfl rfl)
theorem dX2_laws_10 : decode cX2_laws 10 = .ok (.invokevirtual 492, 3) := dk_182 1 236 (dk_at dksX2_laws_0 10 rfl rfl)
theorem dX2_laws_13 : decode cX2_laws 13 = .ok (.goto 4, 3) := dk_167 0 4 (dk_at dksX2_laws_0 13 rfl rfl)
theorem dX2_laws_16 : decode cX2_laws 16 = .ok (.iconst (-1), 1) := dk_2 (dk_at dksX2_laws_0 16 rfl rfl)
theorem dX2_laws_17 : decode cX2_laws 17 = .ok (.ireturn, 1) := dk_172 (dk_at dksX2_laws_0 17 rfl rfl)
abbrev MX2_laws : jjM := (yX2_laws, cX2_laws, 2, (Option.some Jvm.ClassFile.FieldType.int))
theorem npX2_laws : yX2_laws.cls ≠ "java/lang/invoke/MethodHandle" ∧ yX2_laws.cls ≠ "java/lang/invoke/VarHandle" ∧ (parseMethodDescriptor yX2_laws.desc).map (fun d => d.parameters.length) = some 1 := by decide +kernel
abbrev cX2_lawsOf : ByteArray := prog_17_method_136_code
def yX2_lawsOf : MethodName := ⟨RX2, "lawsOf", "(I)I"⟩
def dkwX2_lawsOf_1 : List UInt8 := [167, 0, 4, 3, 128, 61, 132, 3, 1, 167, 255, 228, 28, 172]
abbrev dktX2_lawsOf_1 : List UInt8 := dkwX2_lawsOf_1 ++ []
def dkwX2_lawsOf_0 : List UInt8 := [3, 61, 3, 62, 29, 16, 6, 162, 0, 28, 28, 42, 29, 27, 182, 1, 233, 153, 0, 9, 4, 29, 120]
abbrev dktX2_lawsOf_0 : List UInt8 := dkwX2_lawsOf_0 ++ dktX2_lawsOf_1
theorem dksX2_lawsOf_0 : cX2_lawsOf.data.toList.drop 0 = dktX2_lawsOf_0 := by decide +kernel
theorem dksX2_lawsOf_1 : cX2_lawsOf.data.toList.drop 23 = dktX2_lawsOf_1 := dk_seg dksX2_lawsOf_0 23 rfl rfl
theorem dX2_lawsOf_0 : decode cX2_lawsOf 0 = .ok (.iconst 0, 1) := dk_3 (dk_at dksX2_lawsOf_0 0 rfl rfl)
theorem dX2_lawsOf_1 : decode cX2_lawsOf 1 = .ok (.istore_n 2, 1) := dk_61 (dk_at dksX2_lawsOf_0 1 rfl rfl)
theorem dX2_lawsOf_2 : decode cX2_lawsOf 2 = .ok (.iconst 0, 1) := dk_3 (dk_at dksX2_lawsOf_0 2 rfl rfl)
theorem dX2_lawsOf_3 : decode cX2_lawsOf 3 = .ok (.istore_n 3, 1) := dk_62 (dk_at dksX2_lawsOf_0 3 rfl rfl)
theorem dX2_lawsOf_4 : decode cX2_lawsOf 4 = .ok (.iload_n 3, 1) := dk_29 (dk_at dksX2_lawsOf_0 4 rfl rfl)
theorem dX2_lawsOf_5 : decode cX2_lawsOf 5 = .ok (.bipush 6, 2) := dk_16 6 (dk_at dksX2_lawsOf_0 5 rfl rfl)
theorem dX2_lawsOf_7 : decode cX2_lawsOf 7 = .ok (.if_icmp .ge 28, 3) := dk_162 0 28 (dk_at dksX2_lawsOf_0 7 rfl rfl)
theorem dX2_lawsOf_10 : decode cX2_lawsOf 10 = .ok (.iload_n 2, 1) := dk_28 (dk_at dksX2_lawsOf_0 10 rfl rfl)
theorem dX2_lawsOf_11 : decode cX2_lawsOf 11 = .ok (.aload_n 0, 1) := dk_42 (dk_at dksX2_lawsOf_0 11 rfl rfl)
theorem dX2_lawsOf_12 : decode cX2_lawsOf 12 = .ok (.iload_n 3, 1) := dk_29 (dk_at dksX2_lawsOf_0 12 rfl rfl)
theorem dX2_lawsOf_13 : decode cX2_lawsOf 13 = .ok (.iload_n 1, 1) := dk_27 (dk_at dksX2_lawsOf_0 13 rfl rfl)
theorem dX2_lawsOf_14 : decode cX2_lawsOf 14 = .ok (.invokevirtual 489, 3) := dk_182 1 233 (dk_at dksX2_lawsOf_0 14 rfl rfl)
theorem dX2_lawsOf_17 : decode cX2_lawsOf 17 = .ok (.ifCond .eq 9, 3) := dk_153 0 9 (dk_at dksX2_lawsOf_0 17 rfl rfl)
theorem dX2_lawsOf_20 : decode cX2_lawsOf 20 = .ok (.iconst 1, 1) := dk_4 (dk_at dksX2_lawsOf_0 20 rfl rfl)
theorem dX2_lawsOf_21 : decode cX2_lawsOf 21 = .ok (.iload_n 3, 1) := dk_29 (dk_at dksX2_lawsOf_0 21 rfl rfl)
theorem dX2_lawsOf_22 : decode cX2_lawsOf 22 = .ok (.ishl, 1) := dk_120 (dk_at dksX2_lawsOf_0 22 rfl rfl)
theorem dX2_lawsOf_23 : decode cX2_lawsOf 23 = .ok (.goto 4, 3) := dk_167 0 4 (dk_at dksX2_lawsOf_1 0 rfl rfl)
theorem dX2_lawsOf_26 : decode cX2_lawsOf 26 = .ok (.iconst 0, 1) := dk_3 (dk_at dksX2_lawsOf_1 3 rfl rfl)
theorem dX2_lawsOf_27 : decode cX2_lawsOf 27 = .ok (.ior, 1) := dk_128 (dk_at dksX2_lawsOf_1 4 rfl rfl)
theorem dX2_lawsOf_28 : decode cX2_lawsOf 28 = .ok (.istore_n 2, 1) := dk_61 (dk_at dksX2_lawsOf_1 5 rfl rfl)
theorem dX2_lawsOf_29 : decode cX2_lawsOf 29 = .ok (.iinc 3 1, 3) := dk_132 3 1 (dk_at dksX2_lawsOf_1 6 rfl rfl)
theorem dX2_lawsOf_32 : decode cX2_lawsOf 32 = .ok (.goto (-28), 3) := dk_167 255 228 (dk_at dksX2_lawsOf_1 9 rfl rfl)
theorem dX2_lawsOf_35 : decode cX2_lawsOf 35 = .ok (.iload_n 2, 1) := dk_28 (dk_at dksX2_lawsOf_1 12 rfl rfl)
theorem dX2_lawsOf_36 : decode cX2_lawsOf 36 = .ok (.ireturn, 1) := dk_172 (dk_at dksX2_lawsOf_1 13 rfl rfl)
abbrev MX2_lawsOf : jjM := (yX2_lawsOf, cX2_lawsOf, 4, (Option.some Jvm.ClassFile.FieldType.int))
theorem npX2_lawsOf : yX2_lawsOf.cls ≠ "java/lang/invoke/MethodHandle" ∧ yX2_lawsOf.cls ≠ "java/lang/invoke/VarHandle" ∧ (parseMethodDescriptor yX2_lawsOf.desc).map (fun d => d.parameters.length) = some 1 := by decide +kernel
abbrev cX2_isFit : ByteArray := prog_17_method_135_code
def yX2_isFit : MethodName := ⟨RX2, "isFit", "(II)Z"⟩
def dkwX2_isFit_4 : List UInt8 := [167, 255, 167, 4, 172]
abbrev dktX2_isFit_4 : List UInt8 := dkwX2_isFit_4 ++ []
def dkwX2_isFit_3 : List UInt8 := [21, 4, 6, 96, 46, 4, 160, 0, 7, 4, 167, 0, 4, 3, 159, 0, 5, 3, 172, 132, 3, 1]
abbrev dktX2_isFit_3 : List UInt8 := dkwX2_isFit_3 ++ dktX2_isFit_4
def dkwX2_isFit_2 : List UInt8 := [180, 0, 7, 21, 4, 5, 96, 46, 4, 160, 0, 7, 4, 167, 0, 4, 3, 182, 1, 43, 42, 180, 0, 7]
abbrev dktX2_isFit_2 : List UInt8 := dkwX2_isFit_2 ++ dktX2_isFit_3
def dkwX2_isFit_1 : List UInt8 := [180, 0, 7, 21, 4, 46, 28, 160, 0, 59, 42, 27, 28, 42, 180, 0, 7, 21, 4, 4, 96, 46, 42]
abbrev dktX2_isFit_1 : List UInt8 := dkwX2_isFit_1 ++ dktX2_isFit_2
def dkwX2_isFit_0 : List UInt8 := [3, 62, 29, 42, 180, 0, 7, 16, 8, 46, 162, 0, 84, 16, 106, 7, 29, 104, 96, 54, 4, 42]
abbrev dktX2_isFit_0 : List UInt8 := dkwX2_isFit_0 ++ dktX2_isFit_1
theorem dksX2_isFit_0 : cX2_isFit.data.toList.drop 0 = dktX2_isFit_0 := by decide +kernel
theorem dksX2_isFit_1 : cX2_isFit.data.toList.drop 22 = dktX2_isFit_1 := dk_seg dksX2_isFit_0 22 rfl rfl
theorem dksX2_isFit_2 : cX2_isFit.data.toList.drop 45 = dktX2_isFit_2 := dk_seg dksX2_isFit_1 23 rfl rfl
theorem dksX2_isFit_3 : cX2_isFit.data.toList.drop 69 = dktX2_isFit_3 := dk_seg dksX2_isFit_2 24 rfl rfl
theorem dksX2_isFit_4 : cX2_isFit.data.toList.drop 91 = dktX2_isFit_4 := dk_seg dksX2_isFit_3 22 rfl rfl
theorem dX2_isFit_0 : decode cX2_isFit 0 = .ok (.iconst 0, 1) := dk_3 (dk_at dksX2_isFit_0 0 rfl rfl)
theorem dX2_isFit_1 : decode cX2_isFit 1 = .ok (.istore_n 3, 1) := dk_62 (dk_at dksX2_isFit_0 1 rfl rfl)
theorem dX2_isFit_2 : decode cX2_isFit 2 = .ok (.iload_n 3, 1) := dk_29 (dk_at dksX2_isFit_0 2 rfl rfl)
theorem dX2_isFit_3 : decode cX2_isFit 3 = .ok (.aload_n 0, 1) := dk_42 (dk_at dksX2_isFit_0 3 rfl rfl)
theorem dX2_isFit_4 : decode cX2_isFit 4 = .ok (.getfield 7, 3) := dk_180 0 7 (dk_at dksX2_isFit_0 4 rfl rfl)
theorem dX2_isFit_7 : decode cX2_isFit 7 = .ok (.bipush 8, 2) := dk_16 8 (dk_at dksX2_isFit_0 7 rfl rfl)
theorem dX2_isFit_9 : decode cX2_isFit 9 = .ok (.iaload, 1) := dk_46 (dk_at dksX2_isFit_0 9 rfl rfl)
theorem dX2_isFit_10 : decode cX2_isFit 10 = .ok (.if_icmp .ge 84, 3) := dk_162 0 84 (dk_at dksX2_isFit_0 10 rfl rfl)
theorem dX2_isFit_13 : decode cX2_isFit 13 = .ok (.bipush 106, 2) := dk_16 106 (dk_at dksX2_isFit_0 13 rfl rfl)
theorem dX2_isFit_15 : decode cX2_isFit 15 = .ok (.iconst 4, 1) := dk_7 (dk_at dksX2_isFit_0 15 rfl rfl)
theorem dX2_isFit_16 : decode cX2_isFit 16 = .ok (.iload_n 3, 1) := dk_29 (dk_at dksX2_isFit_0 16 rfl rfl)
theorem dX2_isFit_17 : decode cX2_isFit 17 = .ok (.imul, 1) := dk_104 (dk_at dksX2_isFit_0 17 rfl rfl)
theorem dX2_isFit_18 : decode cX2_isFit 18 = .ok (.iadd, 1) := dk_96 (dk_at dksX2_isFit_0 18 rfl rfl)
theorem dX2_isFit_19 : decode cX2_isFit 19 = .ok (.istore 4, 2) := dk_54 4 (dk_at dksX2_isFit_0 19 rfl rfl)
theorem dX2_isFit_21 : decode cX2_isFit 21 = .ok (.aload_n 0, 1) := dk_42 (dk_at dksX2_isFit_0 21 rfl rfl)
theorem dX2_isFit_22 : decode cX2_isFit 22 = .ok (.getfield 7, 3) := dk_180 0 7 (dk_at dksX2_isFit_1 0 rfl rfl)
theorem dX2_isFit_25 : decode cX2_isFit 25 = .ok (.iload 4, 2) := dk_21 4 (dk_at dksX2_isFit_1 3 rfl rfl)
theorem dX2_isFit_27 : decode cX2_isFit 27 = .ok (.iaload, 1) := dk_46 (dk_at dksX2_isFit_1 5 rfl rfl)
theorem dX2_isFit_28 : decode cX2_isFit 28 = .ok (.iload_n 2, 1) := dk_28 (dk_at dksX2_isFit_1 6 rfl rfl)
theorem dX2_isFit_29 : decode cX2_isFit 29 = .ok (.if_icmp .ne 59, 3) := dk_160 0 59 (dk_at dksX2_isFit_1 7 rfl rfl)
theorem dX2_isFit_32 : decode cX2_isFit 32 = .ok (.aload_n 0, 1) := dk_42 (dk_at dksX2_isFit_1 10 rfl rfl)
theorem dX2_isFit_33 : decode cX2_isFit 33 = .ok (.iload_n 1, 1) := dk_27 (dk_at dksX2_isFit_1 11 rfl rfl)
theorem dX2_isFit_34 : decode cX2_isFit 34 = .ok (.iload_n 2, 1) := dk_28 (dk_at dksX2_isFit_1 12 rfl rfl)
theorem dX2_isFit_35 : decode cX2_isFit 35 = .ok (.aload_n 0, 1) := dk_42 (dk_at dksX2_isFit_1 13 rfl rfl)
theorem dX2_isFit_36 : decode cX2_isFit 36 = .ok (.getfield 7, 3) := dk_180 0 7 (dk_at dksX2_isFit_1 14 rfl rfl)
theorem dX2_isFit_39 : decode cX2_isFit 39 = .ok (.iload 4, 2) := dk_21 4 (dk_at dksX2_isFit_1 17 rfl rfl)
theorem dX2_isFit_41 : decode cX2_isFit 41 = .ok (.iconst 1, 1) := dk_4 (dk_at dksX2_isFit_1 19 rfl rfl)
theorem dX2_isFit_42 : decode cX2_isFit 42 = .ok (.iadd, 1) := dk_96 (dk_at dksX2_isFit_1 20 rfl rfl)
theorem dX2_isFit_43 : decode cX2_isFit 43 = .ok (.iaload, 1) := dk_46 (dk_at dksX2_isFit_1 21 rfl rfl)
theorem dX2_isFit_44 : decode cX2_isFit 44 = .ok (.aload_n 0, 1) := dk_42 (dk_at dksX2_isFit_1 22 rfl rfl)
theorem dX2_isFit_45 : decode cX2_isFit 45 = .ok (.getfield 7, 3) := dk_180 0 7 (dk_at dksX2_isFit_2 0 rfl rfl)
theorem dX2_isFit_48 : decode cX2_isFit 48 = .ok (.iload 4, 2) := dk_21 4 (dk_at dksX2_isFit_2 3 rfl rfl)
theorem dX2_isFit_50 : decode cX2_isFit 50 = .ok (.iconst 2, 1) := dk_5 (dk_at dksX2_isFit_2 5 rfl rfl)
theorem dX2_isFit_51 : decode cX2_isFit 51 = .ok (.iadd, 1) := dk_96 (dk_at dksX2_isFit_2 6 rfl rfl)
theorem dX2_isFit_52 : decode cX2_isFit 52 = .ok (.iaload, 1) := dk_46 (dk_at dksX2_isFit_2 7 rfl rfl)
theorem dX2_isFit_53 : decode cX2_isFit 53 = .ok (.iconst 1, 1) := dk_4 (dk_at dksX2_isFit_2 8 rfl rfl)
theorem dX2_isFit_54 : decode cX2_isFit 54 = .ok (.if_icmp .ne 7, 3) := dk_160 0 7 (dk_at dksX2_isFit_2 9 rfl rfl)
theorem dX2_isFit_57 : decode cX2_isFit 57 = .ok (.iconst 1, 1) := dk_4 (dk_at dksX2_isFit_2 12 rfl rfl)
theorem dX2_isFit_58 : decode cX2_isFit 58 = .ok (.goto 4, 3) := dk_167 0 4 (dk_at dksX2_isFit_2 13 rfl rfl)
theorem dX2_isFit_61 : decode cX2_isFit 61 = .ok (.iconst 0, 1) := dk_3 (dk_at dksX2_isFit_2 16 rfl rfl)
theorem dX2_isFit_62 : decode cX2_isFit 62 = .ok (.invokevirtual 299, 3) := dk_182 1 43 (dk_at dksX2_isFit_2 17 rfl rfl)
theorem dX2_isFit_65 : decode cX2_isFit 65 = .ok (.aload_n 0, 1) := dk_42 (dk_at dksX2_isFit_2 20 rfl rfl)
theorem dX2_isFit_66 : decode cX2_isFit 66 = .ok (.getfield 7, 3) := dk_180 0 7 (dk_at dksX2_isFit_2 21 rfl rfl)
theorem dX2_isFit_69 : decode cX2_isFit 69 = .ok (.iload 4, 2) := dk_21 4 (dk_at dksX2_isFit_3 0 rfl rfl)
theorem dX2_isFit_71 : decode cX2_isFit 71 = .ok (.iconst 3, 1) := dk_6 (dk_at dksX2_isFit_3 2 rfl rfl)
theorem dX2_isFit_72 : decode cX2_isFit 72 = .ok (.iadd, 1) := dk_96 (dk_at dksX2_isFit_3 3 rfl rfl)
theorem dX2_isFit_73 : decode cX2_isFit 73 = .ok (.iaload, 1) := dk_46 (dk_at dksX2_isFit_3 4 rfl rfl)
theorem dX2_isFit_74 : decode cX2_isFit 74 = .ok (.iconst 1, 1) := dk_4 (dk_at dksX2_isFit_3 5 rfl rfl)
theorem dX2_isFit_75 : decode cX2_isFit 75 = .ok (.if_icmp .ne 7, 3) := dk_160 0 7 (dk_at dksX2_isFit_3 6 rfl rfl)
theorem dX2_isFit_78 : decode cX2_isFit 78 = .ok (.iconst 1, 1) := dk_4 (dk_at dksX2_isFit_3 9 rfl rfl)
theorem dX2_isFit_79 : decode cX2_isFit 79 = .ok (.goto 4, 3) := dk_167 0 4 (dk_at dksX2_isFit_3 10 rfl rfl)
theorem dX2_isFit_82 : decode cX2_isFit 82 = .ok (.iconst 0, 1) := dk_3 (dk_at dksX2_isFit_3 13 rfl rfl)
theorem dX2_isFit_83 : decode cX2_isFit 83 = .ok (.if_icmp .eq 5, 3) := dk_159 0 5 (dk_at dksX2_isFit_3 14 rfl rfl)
theorem dX2_isFit_86 : decode cX2_isFit 86 = .ok (.iconst 0, 1) := dk_3 (dk_at dksX2_isFit_3 17 rfl rfl)
theorem dX2_isFit_87 : decode cX2_isFit 87 = .ok (.ireturn, 1) := dk_172 (dk_at dksX2_isFit_3 18 rfl rfl)
theorem dX2_isFit_88 : decode cX2_isFit 88 = .ok (.iinc 3 1, 3) := dk_132 3 1 (dk_at dksX2_isFit_3 19 rfl rfl)
theorem dX2_isFit_91 : decode cX2_isFit 91 = .ok (.goto (-89), 3) := dk_167 255 167 (dk_at dksX2_isFit_4 0 rfl rfl)
theorem dX2_isFit_94 : decode cX2_isFit 94 = .ok (.iconst 1, 1) := dk_4 (dk_at dksX2_isFit_4 3 rfl rfl)
theorem dX2_isFit_95 : decode cX2_isFit 95 = .ok (.ireturn, 1) := dk_172 (dk_at dksX2_isFit_4 4 rfl rfl)
abbrev MX2_isFit : jjM := (yX2_isFit, cX2_isFit, 5, (Option.some Jvm.ClassFile.FieldType.boolean))
theorem npX2_isFit : yX2_isFit.cls ≠ "java/lang/invoke/MethodHandle" ∧ yX2_isFit.cls ≠ "java/lang/invoke/VarHandle" ∧ (parseMethodDescriptor yX2_isFit.desc).map (fun d => d.parameters.length) = some 2 := by decide +kernel
abbrev cX2_tells : ByteArray := prog_17_method_138_code
def yX2_tells : MethodName := ⟨RX2, "tells", "(I)I"⟩
def dkwX2_tells_7 : List UInt8 := [167, 255, 117, 29, 172]
abbrev dktX2_tells_7 : List UInt8 := dkwX2_tells_7 ++ []
def dkwX2_tells_6 : List UInt8 := [54, 7, 21, 7, 21, 4, 161, 0, 6, 167, 0, 10, 21, 7, 54, 4, 21, 5, 62, 132, 5, 1]
abbrev dktX2_tells_6 : List UInt8 := dkwX2_tells_6 ++ dktX2_tells_7
def dkwX2_tells_5 : List UInt8 := [28, 184, 1, 186, 21, 6, 100, 21, 6, 164, 0, 13, 28, 184, 1, 186, 21, 6, 100, 167, 0, 5, 21, 6]
abbrev dktX2_tells_5 : List UInt8 := dkwX2_tells_5 ++ dktX2_tells_6
def dkwX2_tells_4 : List UInt8 := [167, 0, 4, 3, 182, 1, 43, 153, 0, 7, 4, 167, 0, 4, 3, 96, 54, 6, 132, 7, 1, 167, 255, 200]
abbrev dktX2_tells_4 : List UInt8 := dkwX2_tells_4 ++ dktX2_tells_5
def dkwX2_tells_3 : List UInt8 := [184, 1, 165, 153, 0, 34, 42, 21, 7, 27, 21, 5, 5, 108, 21, 5, 5, 112, 4, 160, 0, 7, 4]
abbrev dktX2_tells_3 : List UInt8 := dkwX2_tells_3 ++ dktX2_tells_4
def dkwX2_tells_2 : List UInt8 := [160, 0, 6, 167, 0, 111, 3, 54, 6, 3, 54, 7, 21, 7, 16, 6, 162, 0, 55, 21, 6, 28, 21, 7]
abbrev dktX2_tells_2 : List UInt8 := dkwX2_tells_2 ++ dktX2_tells_3
def dkwX2_tells_1 : List UInt8 := [54, 5, 21, 5, 5, 42, 180, 0, 7, 3, 46, 104, 162, 0, 132, 28, 153, 0, 128, 21, 5, 5, 108, 27]
abbrev dktX2_tells_1 : List UInt8 := dkwX2_tells_1 ++ dktX2_tells_2
def dkwX2_tells_0 : List UInt8 := [42, 27, 182, 0, 93, 154, 0, 5, 2, 172, 42, 27, 182, 1, 236, 61, 2, 62, 19, 1, 232, 54, 4, 3]
abbrev dktX2_tells_0 : List UInt8 := dkwX2_tells_0 ++ dktX2_tells_1
theorem dksX2_tells_0 : cX2_tells.data.toList.drop 0 = dktX2_tells_0 := by decide +kernel
theorem dksX2_tells_1 : cX2_tells.data.toList.drop 24 = dktX2_tells_1 := dk_seg dksX2_tells_0 24 rfl rfl
theorem dksX2_tells_2 : cX2_tells.data.toList.drop 48 = dktX2_tells_2 := dk_seg dksX2_tells_1 24 rfl rfl
theorem dksX2_tells_3 : cX2_tells.data.toList.drop 72 = dktX2_tells_3 := dk_seg dksX2_tells_2 24 rfl rfl
theorem dksX2_tells_4 : cX2_tells.data.toList.drop 95 = dktX2_tells_4 := dk_seg dksX2_tells_3 23 rfl rfl
theorem dksX2_tells_5 : cX2_tells.data.toList.drop 119 = dktX2_tells_5 := dk_seg dksX2_tells_4 24 rfl rfl
theorem dksX2_tells_6 : cX2_tells.data.toList.drop 143 = dktX2_tells_6 := dk_seg dksX2_tells_5 24 rfl rfl
theorem dksX2_tells_7 : cX2_tells.data.toList.drop 165 = dktX2_tells_7 := dk_seg dksX2_tells_6 22 rfl rfl
theorem dX2_tells_0 : decode cX2_tells 0 = .ok (.aload_n 0, 1) := dk_42 (dk_at dksX2_tells_0 0 rfl rfl)
theorem dX2_tells_1 : decode cX2_tells 1 = .ok (.iload_n 1, 1) := dk_27 (dk_at dksX2_tells_0 1 rfl rfl)
theorem dX2_tells_2 : decode cX2_tells 2 = .ok (.invokevirtual 93, 3) := dk_182 0 93 (dk_at dksX2_tells_0 2 rfl rfl)
theorem dX2_tells_5 : decode cX2_tells 5 = .ok (.ifCond .ne 5, 3) := dk_154 0 5 (dk_at dksX2_tells_0 5 rfl rfl)
theorem dX2_tells_8 : decode cX2_tells 8 = .ok (.iconst (-1), 1) := dk_2 (dk_at dksX2_tells_0 8 rfl rfl)
theorem dX2_tells_9 : decode cX2_tells 9 = .ok (.ireturn, 1) := dk_172 (dk_at dksX2_tells_0 9 rfl rfl)
theorem dX2_tells_10 : decode cX2_tells 10 = .ok (.aload_n 0, 1) := dk_42 (dk_at dksX2_tells_0 10 rfl rfl)
theorem dX2_tells_11 : decode cX2_tells 11 = .ok (.iload_n 1, 1) := dk_27 (dk_at dksX2_tells_0 11 rfl rfl)
theorem dX2_tells_12 : decode cX2_tells 12 = .ok (.invokevirtual 492, 3) := dk_182 1 236 (dk_at dksX2_tells_0 12 rfl rfl)
theorem dX2_tells_15 : decode cX2_tells 15 = .ok (.istore_n 2, 1) := dk_61 (dk_at dksX2_tells_0 15 rfl rfl)
theorem dX2_tells_16 : decode cX2_tells 16 = .ok (.iconst (-1), 1) := dk_2 (dk_at dksX2_tells_0 16 rfl rfl)
theorem dX2_tells_17 : decode cX2_tells 17 = .ok (.istore_n 3, 1) := dk_62 (dk_at dksX2_tells_0 17 rfl rfl)
theorem dX2_tells_18 : decode cX2_tells 18 = .ok (.ldc_w 488, 3) := dk_19 1 232 (dk_at dksX2_tells_0 18 rfl rfl)
theorem dX2_tells_21 : decode cX2_tells 21 = .ok (.istore 4, 2) := dk_54 4 (dk_at dksX2_tells_0 21 rfl rfl)
theorem dX2_tells_23 : decode cX2_tells 23 = .ok (.iconst 0, 1) := dk_3 (dk_at dksX2_tells_0 23 rfl rfl)
theorem dX2_tells_24 : decode cX2_tells 24 = .ok (.istore 5, 2) := dk_54 5 (dk_at dksX2_tells_1 0 rfl rfl)
theorem dX2_tells_26 : decode cX2_tells 26 = .ok (.iload 5, 2) := dk_21 5 (dk_at dksX2_tells_1 2 rfl rfl)
theorem dX2_tells_28 : decode cX2_tells 28 = .ok (.iconst 2, 1) := dk_5 (dk_at dksX2_tells_1 4 rfl rfl)
theorem dX2_tells_29 : decode cX2_tells 29 = .ok (.aload_n 0, 1) := dk_42 (dk_at dksX2_tells_1 5 rfl rfl)
theorem dX2_tells_30 : decode cX2_tells 30 = .ok (.getfield 7, 3) := dk_180 0 7 (dk_at dksX2_tells_1 6 rfl rfl)
theorem dX2_tells_33 : decode cX2_tells 33 = .ok (.iconst 0, 1) := dk_3 (dk_at dksX2_tells_1 9 rfl rfl)
theorem dX2_tells_34 : decode cX2_tells 34 = .ok (.iaload, 1) := dk_46 (dk_at dksX2_tells_1 10 rfl rfl)
theorem dX2_tells_35 : decode cX2_tells 35 = .ok (.imul, 1) := dk_104 (dk_at dksX2_tells_1 11 rfl rfl)
theorem dX2_tells_36 : decode cX2_tells 36 = .ok (.if_icmp .ge 132, 3) := dk_162 0 132 (dk_at dksX2_tells_1 12 rfl rfl)
theorem dX2_tells_39 : decode cX2_tells 39 = .ok (.iload_n 2, 1) := dk_28 (dk_at dksX2_tells_1 15 rfl rfl)
theorem dX2_tells_40 : decode cX2_tells 40 = .ok (.ifCond .eq 128, 3) := dk_153 0 128 (dk_at dksX2_tells_1 16 rfl rfl)
theorem dX2_tells_43 : decode cX2_tells 43 = .ok (.iload 5, 2) := dk_21 5 (dk_at dksX2_tells_1 19 rfl rfl)
theorem dX2_tells_45 : decode cX2_tells 45 = .ok (.iconst 2, 1) := dk_5 (dk_at dksX2_tells_1 21 rfl rfl)
theorem dX2_tells_46 : decode cX2_tells 46 = .ok (.idiv, 1) := dk_108 (dk_at dksX2_tells_1 22 rfl rfl)
theorem dX2_tells_47 : decode cX2_tells 47 = .ok (.iload_n 1, 1) := dk_27 (dk_at dksX2_tells_1 23 rfl rfl)
theorem dX2_tells_48 : decode cX2_tells 48 = .ok (.if_icmp .ne 6, 3) := dk_160 0 6 (dk_at dksX2_tells_2 0 rfl rfl)
theorem dX2_tells_51 : decode cX2_tells 51 = .ok (.goto 111, 3) := dk_167 0 111 (dk_at dksX2_tells_2 3 rfl rfl)
theorem dX2_tells_54 : decode cX2_tells 54 = .ok (.iconst 0, 1) := dk_3 (dk_at dksX2_tells_2 6 rfl rfl)
theorem dX2_tells_55 : decode cX2_tells 55 = .ok (.istore 6, 2) := dk_54 6 (dk_at dksX2_tells_2 7 rfl rfl)
theorem dX2_tells_57 : decode cX2_tells 57 = .ok (.iconst 0, 1) := dk_3 (dk_at dksX2_tells_2 9 rfl rfl)
theorem dX2_tells_58 : decode cX2_tells 58 = .ok (.istore 7, 2) := dk_54 7 (dk_at dksX2_tells_2 10 rfl rfl)
theorem dX2_tells_60 : decode cX2_tells 60 = .ok (.iload 7, 2) := dk_21 7 (dk_at dksX2_tells_2 12 rfl rfl)
theorem dX2_tells_62 : decode cX2_tells 62 = .ok (.bipush 6, 2) := dk_16 6 (dk_at dksX2_tells_2 14 rfl rfl)
theorem dX2_tells_64 : decode cX2_tells 64 = .ok (.if_icmp .ge 55, 3) := dk_162 0 55 (dk_at dksX2_tells_2 16 rfl rfl)
theorem dX2_tells_67 : decode cX2_tells 67 = .ok (.iload 6, 2) := dk_21 6 (dk_at dksX2_tells_2 19 rfl rfl)
theorem dX2_tells_69 : decode cX2_tells 69 = .ok (.iload_n 2, 1) := dk_28 (dk_at dksX2_tells_2 21 rfl rfl)
theorem dX2_tells_70 : decode cX2_tells 70 = .ok (.iload 7, 2) := dk_21 7 (dk_at dksX2_tells_2 22 rfl rfl)
theorem dX2_tells_72 : decode cX2_tells 72 = .ok (.invokestatic 421, 3) := dk_184 1 165 (dk_at dksX2_tells_3 0 rfl rfl)
theorem dX2_tells_75 : decode cX2_tells 75 = .ok (.ifCond .eq 34, 3) := dk_153 0 34 (dk_at dksX2_tells_3 3 rfl rfl)
theorem dX2_tells_78 : decode cX2_tells 78 = .ok (.aload_n 0, 1) := dk_42 (dk_at dksX2_tells_3 6 rfl rfl)
theorem dX2_tells_79 : decode cX2_tells 79 = .ok (.iload 7, 2) := dk_21 7 (dk_at dksX2_tells_3 7 rfl rfl)
theorem dX2_tells_81 : decode cX2_tells 81 = .ok (.iload_n 1, 1) := dk_27 (dk_at dksX2_tells_3 9 rfl rfl)
theorem dX2_tells_82 : decode cX2_tells 82 = .ok (.iload 5, 2) := dk_21 5 (dk_at dksX2_tells_3 10 rfl rfl)
theorem dX2_tells_84 : decode cX2_tells 84 = .ok (.iconst 2, 1) := dk_5 (dk_at dksX2_tells_3 12 rfl rfl)
theorem dX2_tells_85 : decode cX2_tells 85 = .ok (.idiv, 1) := dk_108 (dk_at dksX2_tells_3 13 rfl rfl)
theorem dX2_tells_86 : decode cX2_tells 86 = .ok (.iload 5, 2) := dk_21 5 (dk_at dksX2_tells_3 14 rfl rfl)
theorem dX2_tells_88 : decode cX2_tells 88 = .ok (.iconst 2, 1) := dk_5 (dk_at dksX2_tells_3 16 rfl rfl)
theorem dX2_tells_89 : decode cX2_tells 89 = .ok (.irem, 1) := dk_112 (dk_at dksX2_tells_3 17 rfl rfl)
theorem dX2_tells_90 : decode cX2_tells 90 = .ok (.iconst 1, 1) := dk_4 (dk_at dksX2_tells_3 18 rfl rfl)
theorem dX2_tells_91 : decode cX2_tells 91 = .ok (.if_icmp .ne 7, 3) := dk_160 0 7 (dk_at dksX2_tells_3 19 rfl rfl)
theorem dX2_tells_94 : decode cX2_tells 94 = .ok (.iconst 1, 1) := dk_4 (dk_at dksX2_tells_3 22 rfl rfl)
theorem dX2_tells_95 : decode cX2_tells 95 = .ok (.goto 4, 3) := dk_167 0 4 (dk_at dksX2_tells_4 0 rfl rfl)
theorem dX2_tells_98 : decode cX2_tells 98 = .ok (.iconst 0, 1) := dk_3 (dk_at dksX2_tells_4 3 rfl rfl)
theorem dX2_tells_99 : decode cX2_tells 99 = .ok (.invokevirtual 299, 3) := dk_182 1 43 (dk_at dksX2_tells_4 4 rfl rfl)
theorem dX2_tells_102 : decode cX2_tells 102 = .ok (.ifCond .eq 7, 3) := dk_153 0 7 (dk_at dksX2_tells_4 7 rfl rfl)
theorem dX2_tells_105 : decode cX2_tells 105 = .ok (.iconst 1, 1) := dk_4 (dk_at dksX2_tells_4 10 rfl rfl)
theorem dX2_tells_106 : decode cX2_tells 106 = .ok (.goto 4, 3) := dk_167 0 4 (dk_at dksX2_tells_4 11 rfl rfl)
theorem dX2_tells_109 : decode cX2_tells 109 = .ok (.iconst 0, 1) := dk_3 (dk_at dksX2_tells_4 14 rfl rfl)
theorem dX2_tells_110 : decode cX2_tells 110 = .ok (.iadd, 1) := dk_96 (dk_at dksX2_tells_4 15 rfl rfl)
theorem dX2_tells_111 : decode cX2_tells 111 = .ok (.istore 6, 2) := dk_54 6 (dk_at dksX2_tells_4 16 rfl rfl)
theorem dX2_tells_113 : decode cX2_tells 113 = .ok (.iinc 7 1, 3) := dk_132 7 1 (dk_at dksX2_tells_4 18 rfl rfl)
theorem dX2_tells_116 : decode cX2_tells 116 = .ok (.goto (-56), 3) := dk_167 255 200 (dk_at dksX2_tells_4 21 rfl rfl)
theorem dX2_tells_119 : decode cX2_tells 119 = .ok (.iload_n 2, 1) := dk_28 (dk_at dksX2_tells_5 0 rfl rfl)
theorem dX2_tells_120 : decode cX2_tells 120 = .ok (.invokestatic 442, 3) := dk_184 1 186 (dk_at dksX2_tells_5 1 rfl rfl)
theorem dX2_tells_123 : decode cX2_tells 123 = .ok (.iload 6, 2) := dk_21 6 (dk_at dksX2_tells_5 4 rfl rfl)
theorem dX2_tells_125 : decode cX2_tells 125 = .ok (.isub, 1) := dk_100 (dk_at dksX2_tells_5 6 rfl rfl)
theorem dX2_tells_126 : decode cX2_tells 126 = .ok (.iload 6, 2) := dk_21 6 (dk_at dksX2_tells_5 7 rfl rfl)
theorem dX2_tells_128 : decode cX2_tells 128 = .ok (.if_icmp .le 13, 3) := dk_164 0 13 (dk_at dksX2_tells_5 9 rfl rfl)
theorem dX2_tells_131 : decode cX2_tells 131 = .ok (.iload_n 2, 1) := dk_28 (dk_at dksX2_tells_5 12 rfl rfl)
theorem dX2_tells_132 : decode cX2_tells 132 = .ok (.invokestatic 442, 3) := dk_184 1 186 (dk_at dksX2_tells_5 13 rfl rfl)
theorem dX2_tells_135 : decode cX2_tells 135 = .ok (.iload 6, 2) := dk_21 6 (dk_at dksX2_tells_5 16 rfl rfl)
theorem dX2_tells_137 : decode cX2_tells 137 = .ok (.isub, 1) := dk_100 (dk_at dksX2_tells_5 18 rfl rfl)
theorem dX2_tells_138 : decode cX2_tells 138 = .ok (.goto 5, 3) := dk_167 0 5 (dk_at dksX2_tells_5 19 rfl rfl)
theorem dX2_tells_141 : decode cX2_tells 141 = .ok (.iload 6, 2) := dk_21 6 (dk_at dksX2_tells_5 22 rfl rfl)
theorem dX2_tells_143 : decode cX2_tells 143 = .ok (.istore 7, 2) := dk_54 7 (dk_at dksX2_tells_6 0 rfl rfl)
theorem dX2_tells_145 : decode cX2_tells 145 = .ok (.iload 7, 2) := dk_21 7 (dk_at dksX2_tells_6 2 rfl rfl)
theorem dX2_tells_147 : decode cX2_tells 147 = .ok (.iload 4, 2) := dk_21 4 (dk_at dksX2_tells_6 4 rfl rfl)
theorem dX2_tells_149 : decode cX2_tells 149 = .ok (.if_icmp .lt 6, 3) := dk_161 0 6 (dk_at dksX2_tells_6 6 rfl rfl)
theorem dX2_tells_152 : decode cX2_tells 152 = .ok (.goto 10, 3) := dk_167 0 10 (dk_at dksX2_tells_6 9 rfl rfl)
theorem dX2_tells_155 : decode cX2_tells 155 = .ok (.iload 7, 2) := dk_21 7 (dk_at dksX2_tells_6 12 rfl rfl)
theorem dX2_tells_157 : decode cX2_tells 157 = .ok (.istore 4, 2) := dk_54 4 (dk_at dksX2_tells_6 14 rfl rfl)
theorem dX2_tells_159 : decode cX2_tells 159 = .ok (.iload 5, 2) := dk_21 5 (dk_at dksX2_tells_6 16 rfl rfl)
theorem dX2_tells_161 : decode cX2_tells 161 = .ok (.istore_n 3, 1) := dk_62 (dk_at dksX2_tells_6 18 rfl rfl)
theorem dX2_tells_162 : decode cX2_tells 162 = .ok (.iinc 5 1, 3) := dk_132 5 1 (dk_at dksX2_tells_6 19 rfl rfl)
theorem dX2_tells_165 : decode cX2_tells 165 = .ok (.goto (-139), 3) := dk_167 255 117 (dk_at dksX2_tells_7 0 rfl rfl)
theorem dX2_tells_168 : decode cX2_tells 168 = .ok (.iload_n 3, 1) := dk_29 (dk_at dksX2_tells_7 3 rfl rfl)
theorem dX2_tells_169 : decode cX2_tells 169 = .ok (.ireturn, 1) := dk_172 (dk_at dksX2_tells_7 4 rfl rfl)
abbrev MX2_tells : jjM := (yX2_tells, cX2_tells, 8, (Option.some Jvm.ClassFile.FieldType.int))
theorem npX2_tells : yX2_tells.cls ≠ "java/lang/invoke/MethodHandle" ∧ yX2_tells.cls ≠ "java/lang/invoke/VarHandle" ∧ (parseMethodDescriptor yX2_tells.desc).map (fun d => d.parameters.length) = some 1 := by decide +kernel
abbrev cX2_fits : ByteArray := prog_17_method_139_code
def yX2_fits : MethodName := ⟨RX2, "fits", "(I)I"⟩
def dkwX2_fits_7 : List UInt8 := [172]
abbrev dktX2_fits_7 : List UInt8 := dkwX2_fits_7 ++ []
def dkwX2_fits_6 : List UInt8 := [21, 6, 21, 4, 161, 0, 6, 167, 0, 10, 21, 5, 62, 21, 6, 54, 4, 132, 5, 1, 167, 255, 128, 29]
abbrev dktX2_fits_6 : List UInt8 := dkwX2_fits_6 ++ dktX2_fits_7
def dkwX2_fits_5 : List UInt8 := [21, 5, 184, 1, 186, 29, 184, 1, 186, 161, 0, 32, 21, 5, 184, 1, 186, 29, 184, 1, 186, 160, 0, 13]
abbrev dktX2_fits_5 : List UInt8 := dkwX2_fits_5 ++ dktX2_fits_6
def dkwX2_fits_4 : List UInt8 := [182, 1, 40, 167, 0, 6, 19, 1, 232, 96, 54, 6, 132, 7, 1, 167, 255, 200, 21, 6, 28, 163, 0, 44]
abbrev dktX2_fits_4 : List UInt8 := dkwX2_fits_4 ++ dktX2_fits_5
def dkwX2_fits_3 : List UInt8 := [184, 1, 165, 154, 0, 7, 3, 167, 0, 26, 42, 21, 7, 8, 182, 0, 97, 6, 160, 0, 12, 42, 21, 7]
abbrev dktX2_fits_3 : List UInt8 := dkwX2_fits_3 ++ dktX2_fits_4
def dkwX2_fits_2 : List UInt8 := [54, 6, 3, 54, 7, 21, 7, 42, 180, 0, 7, 3, 46, 162, 0, 51, 21, 6, 21, 5, 21, 7]
abbrev dktX2_fits_2 : List UInt8 := dkwX2_fits_2 ++ dktX2_fits_3
def dkwX2_fits_1 : List UInt8 := [61, 3, 62, 3, 54, 4, 4, 54, 5, 21, 5, 4, 42, 180, 0, 7, 3, 46, 120, 162, 0, 121, 3]
abbrev dktX2_fits_1 : List UInt8 := dkwX2_fits_1 ++ dktX2_fits_2
def dkwX2_fits_0 : List UInt8 := [27, 184, 1, 54, 154, 0, 5, 2, 172, 42, 180, 0, 7, 16, 10, 27, 96, 46, 42, 27, 182, 1, 57, 100]
abbrev dktX2_fits_0 : List UInt8 := dkwX2_fits_0 ++ dktX2_fits_1
theorem dksX2_fits_0 : cX2_fits.data.toList.drop 0 = dktX2_fits_0 := by decide +kernel
theorem dksX2_fits_1 : cX2_fits.data.toList.drop 24 = dktX2_fits_1 := dk_seg dksX2_fits_0 24 rfl rfl
theorem dksX2_fits_2 : cX2_fits.data.toList.drop 47 = dktX2_fits_2 := dk_seg dksX2_fits_1 23 rfl rfl
theorem dksX2_fits_3 : cX2_fits.data.toList.drop 69 = dktX2_fits_3 := dk_seg dksX2_fits_2 22 rfl rfl
theorem dksX2_fits_4 : cX2_fits.data.toList.drop 93 = dktX2_fits_4 := dk_seg dksX2_fits_3 24 rfl rfl
theorem dksX2_fits_5 : cX2_fits.data.toList.drop 117 = dktX2_fits_5 := dk_seg dksX2_fits_4 24 rfl rfl
theorem dksX2_fits_6 : cX2_fits.data.toList.drop 141 = dktX2_fits_6 := dk_seg dksX2_fits_5 24 rfl rfl
theorem dksX2_fits_7 : cX2_fits.data.toList.drop 165 = dktX2_fits_7 := dk_seg dksX2_fits_6 24 rfl rfl
theorem dX2_fits_0 : decode cX2_fits 0 = .ok (.iload_n 1, 1) := dk_27 (dk_at dksX2_fits_0 0 rfl rfl)
theorem dX2_fits_1 : decode cX2_fits 1 = .ok (.invokestatic 310, 3) := dk_184 1 54 (dk_at dksX2_fits_0 1 rfl rfl)
theorem dX2_fits_4 : decode cX2_fits 4 = .ok (.ifCond .ne 5, 3) := dk_154 0 5 (dk_at dksX2_fits_0 4 rfl rfl)
theorem dX2_fits_7 : decode cX2_fits 7 = .ok (.iconst (-1), 1) := dk_2 (dk_at dksX2_fits_0 7 rfl rfl)
theorem dX2_fits_8 : decode cX2_fits 8 = .ok (.ireturn, 1) := dk_172 (dk_at dksX2_fits_0 8 rfl rfl)
theorem dX2_fits_9 : decode cX2_fits 9 = .ok (.aload_n 0, 1) := dk_42 (dk_at dksX2_fits_0 9 rfl rfl)
theorem dX2_fits_10 : decode cX2_fits 10 = .ok (.getfield 7, 3) := dk_180 0 7 (dk_at dksX2_fits_0 10 rfl rfl)
theorem dX2_fits_13 : decode cX2_fits 13 = .ok (.bipush 10, 2) := dk_16 10 (dk_at dksX2_fits_0 13 rfl rfl)
theorem dX2_fits_15 : decode cX2_fits 15 = .ok (.iload_n 1, 1) := dk_27 (dk_at dksX2_fits_0 15 rfl rfl)
theorem dX2_fits_16 : decode cX2_fits 16 = .ok (.iadd, 1) := dk_96 (dk_at dksX2_fits_0 16 rfl rfl)
theorem dX2_fits_17 : decode cX2_fits 17 = .ok (.iaload, 1) := dk_46 (dk_at dksX2_fits_0 17 rfl rfl)
theorem dX2_fits_18 : decode cX2_fits 18 = .ok (.aload_n 0, 1) := dk_42 (dk_at dksX2_fits_0 18 rfl rfl)
theorem dX2_fits_19 : decode cX2_fits 19 = .ok (.iload_n 1, 1) := dk_27 (dk_at dksX2_fits_0 19 rfl rfl)
theorem dX2_fits_20 : decode cX2_fits 20 = .ok (.invokevirtual 313, 3) := dk_182 1 57 (dk_at dksX2_fits_0 20 rfl rfl)
theorem dX2_fits_23 : decode cX2_fits 23 = .ok (.isub, 1) := dk_100 (dk_at dksX2_fits_0 23 rfl rfl)
theorem dX2_fits_24 : decode cX2_fits 24 = .ok (.istore_n 2, 1) := dk_61 (dk_at dksX2_fits_1 0 rfl rfl)
theorem dX2_fits_25 : decode cX2_fits 25 = .ok (.iconst 0, 1) := dk_3 (dk_at dksX2_fits_1 1 rfl rfl)
theorem dX2_fits_26 : decode cX2_fits 26 = .ok (.istore_n 3, 1) := dk_62 (dk_at dksX2_fits_1 2 rfl rfl)
theorem dX2_fits_27 : decode cX2_fits 27 = .ok (.iconst 0, 1) := dk_3 (dk_at dksX2_fits_1 3 rfl rfl)
theorem dX2_fits_28 : decode cX2_fits 28 = .ok (.istore 4, 2) := dk_54 4 (dk_at dksX2_fits_1 4 rfl rfl)
theorem dX2_fits_30 : decode cX2_fits 30 = .ok (.iconst 1, 1) := dk_4 (dk_at dksX2_fits_1 6 rfl rfl)
theorem dX2_fits_31 : decode cX2_fits 31 = .ok (.istore 5, 2) := dk_54 5 (dk_at dksX2_fits_1 7 rfl rfl)
theorem dX2_fits_33 : decode cX2_fits 33 = .ok (.iload 5, 2) := dk_21 5 (dk_at dksX2_fits_1 9 rfl rfl)
theorem dX2_fits_35 : decode cX2_fits 35 = .ok (.iconst 1, 1) := dk_4 (dk_at dksX2_fits_1 11 rfl rfl)
theorem dX2_fits_36 : decode cX2_fits 36 = .ok (.aload_n 0, 1) := dk_42 (dk_at dksX2_fits_1 12 rfl rfl)
theorem dX2_fits_37 : decode cX2_fits 37 = .ok (.getfield 7, 3) := dk_180 0 7 (dk_at dksX2_fits_1 13 rfl rfl)
theorem dX2_fits_40 : decode cX2_fits 40 = .ok (.iconst 0, 1) := dk_3 (dk_at dksX2_fits_1 16 rfl rfl)
theorem dX2_fits_41 : decode cX2_fits 41 = .ok (.iaload, 1) := dk_46 (dk_at dksX2_fits_1 17 rfl rfl)
theorem dX2_fits_42 : decode cX2_fits 42 = .ok (.ishl, 1) := dk_120 (dk_at dksX2_fits_1 18 rfl rfl)
theorem dX2_fits_43 : decode cX2_fits 43 = .ok (.if_icmp .ge 121, 3) := dk_162 0 121 (dk_at dksX2_fits_1 19 rfl rfl)
theorem dX2_fits_46 : decode cX2_fits 46 = .ok (.iconst 0, 1) := dk_3 (dk_at dksX2_fits_1 22 rfl rfl)
theorem dX2_fits_47 : decode cX2_fits 47 = .ok (.istore 6, 2) := dk_54 6 (dk_at dksX2_fits_2 0 rfl rfl)
theorem dX2_fits_49 : decode cX2_fits 49 = .ok (.iconst 0, 1) := dk_3 (dk_at dksX2_fits_2 2 rfl rfl)
theorem dX2_fits_50 : decode cX2_fits 50 = .ok (.istore 7, 2) := dk_54 7 (dk_at dksX2_fits_2 3 rfl rfl)
theorem dX2_fits_52 : decode cX2_fits 52 = .ok (.iload 7, 2) := dk_21 7 (dk_at dksX2_fits_2 5 rfl rfl)
theorem dX2_fits_54 : decode cX2_fits 54 = .ok (.aload_n 0, 1) := dk_42 (dk_at dksX2_fits_2 7 rfl rfl)
theorem dX2_fits_55 : decode cX2_fits 55 = .ok (.getfield 7, 3) := dk_180 0 7 (dk_at dksX2_fits_2 8 rfl rfl)
theorem dX2_fits_58 : decode cX2_fits 58 = .ok (.iconst 0, 1) := dk_3 (dk_at dksX2_fits_2 11 rfl rfl)
theorem dX2_fits_59 : decode cX2_fits 59 = .ok (.iaload, 1) := dk_46 (dk_at dksX2_fits_2 12 rfl rfl)
theorem dX2_fits_60 : decode cX2_fits 60 = .ok (.if_icmp .ge 51, 3) := dk_162 0 51 (dk_at dksX2_fits_2 13 rfl rfl)
theorem dX2_fits_63 : decode cX2_fits 63 = .ok (.iload 6, 2) := dk_21 6 (dk_at dksX2_fits_2 16 rfl rfl)
theorem dX2_fits_65 : decode cX2_fits 65 = .ok (.iload 5, 2) := dk_21 5 (dk_at dksX2_fits_2 18 rfl rfl)
theorem dX2_fits_67 : decode cX2_fits 67 = .ok (.iload 7, 2) := dk_21 7 (dk_at dksX2_fits_2 20 rfl rfl)
theorem dX2_fits_69 : decode cX2_fits 69 = .ok (.invokestatic 421, 3) := dk_184 1 165 (dk_at dksX2_fits_3 0 rfl rfl)
theorem dX2_fits_72 : decode cX2_fits 72 = .ok (.ifCond .ne 7, 3) := dk_154 0 7 (dk_at dksX2_fits_3 3 rfl rfl)
theorem dX2_fits_75 : decode cX2_fits 75 = .ok (.iconst 0, 1) := dk_3 (dk_at dksX2_fits_3 6 rfl rfl)
theorem dX2_fits_76 : decode cX2_fits 76 = .ok (.goto 26, 3) := dk_167 0 26 (dk_at dksX2_fits_3 7 rfl rfl)
theorem dX2_fits_79 : decode cX2_fits 79 = .ok (.aload_n 0, 1) := dk_42 (dk_at dksX2_fits_3 10 rfl rfl)
theorem dX2_fits_80 : decode cX2_fits 80 = .ok (.iload 7, 2) := dk_21 7 (dk_at dksX2_fits_3 11 rfl rfl)
theorem dX2_fits_82 : decode cX2_fits 82 = .ok (.iconst 5, 1) := dk_8 (dk_at dksX2_fits_3 13 rfl rfl)
theorem dX2_fits_83 : decode cX2_fits 83 = .ok (.invokevirtual 97, 3) := dk_182 0 97 (dk_at dksX2_fits_3 14 rfl rfl)
theorem dX2_fits_86 : decode cX2_fits 86 = .ok (.iconst 3, 1) := dk_6 (dk_at dksX2_fits_3 17 rfl rfl)
theorem dX2_fits_87 : decode cX2_fits 87 = .ok (.if_icmp .ne 12, 3) := dk_160 0 12 (dk_at dksX2_fits_3 18 rfl rfl)
theorem dX2_fits_90 : decode cX2_fits 90 = .ok (.aload_n 0, 1) := dk_42 (dk_at dksX2_fits_3 21 rfl rfl)
theorem dX2_fits_91 : decode cX2_fits 91 = .ok (.iload 7, 2) := dk_21 7 (dk_at dksX2_fits_3 22 rfl rfl)
theorem dX2_fits_93 : decode cX2_fits 93 = .ok (.invokevirtual 296, 3) := dk_182 1 40 (dk_at dksX2_fits_4 0 rfl rfl)
theorem dX2_fits_96 : decode cX2_fits 96 = .ok (.goto 6, 3) := dk_167 0 6 (dk_at dksX2_fits_4 3 rfl rfl)
theorem dX2_fits_99 : decode cX2_fits 99 = .ok (.ldc_w 488, 3) := dk_19 1 232 (dk_at dksX2_fits_4 6 rfl rfl)
theorem dX2_fits_102 : decode cX2_fits 102 = .ok (.iadd, 1) := dk_96 (dk_at dksX2_fits_4 9 rfl rfl)
theorem dX2_fits_103 : decode cX2_fits 103 = .ok (.istore 6, 2) := dk_54 6 (dk_at dksX2_fits_4 10 rfl rfl)
theorem dX2_fits_105 : decode cX2_fits 105 = .ok (.iinc 7 1, 3) := dk_132 7 1 (dk_at dksX2_fits_4 12 rfl rfl)
theorem dX2_fits_108 : decode cX2_fits 108 = .ok (.goto (-56), 3) := dk_167 255 200 (dk_at dksX2_fits_4 15 rfl rfl)
theorem dX2_fits_111 : decode cX2_fits 111 = .ok (.iload 6, 2) := dk_21 6 (dk_at dksX2_fits_4 18 rfl rfl)
theorem dX2_fits_113 : decode cX2_fits 113 = .ok (.iload_n 2, 1) := dk_28 (dk_at dksX2_fits_4 20 rfl rfl)
theorem dX2_fits_114 : decode cX2_fits 114 = .ok (.if_icmp .gt 44, 3) := dk_163 0 44 (dk_at dksX2_fits_4 21 rfl rfl)
theorem dX2_fits_117 : decode cX2_fits 117 = .ok (.iload 5, 2) := dk_21 5 (dk_at dksX2_fits_5 0 rfl rfl)
theorem dX2_fits_119 : decode cX2_fits 119 = .ok (.invokestatic 442, 3) := dk_184 1 186 (dk_at dksX2_fits_5 2 rfl rfl)
theorem dX2_fits_122 : decode cX2_fits 122 = .ok (.iload_n 3, 1) := dk_29 (dk_at dksX2_fits_5 5 rfl rfl)
theorem dX2_fits_123 : decode cX2_fits 123 = .ok (.invokestatic 442, 3) := dk_184 1 186 (dk_at dksX2_fits_5 6 rfl rfl)
theorem dX2_fits_126 : decode cX2_fits 126 = .ok (.if_icmp .lt 32, 3) := dk_161 0 32 (dk_at dksX2_fits_5 9 rfl rfl)
theorem dX2_fits_129 : decode cX2_fits 129 = .ok (.iload 5, 2) := dk_21 5 (dk_at dksX2_fits_5 12 rfl rfl)
theorem dX2_fits_131 : decode cX2_fits 131 = .ok (.invokestatic 442, 3) := dk_184 1 186 (dk_at dksX2_fits_5 14 rfl rfl)
theorem dX2_fits_134 : decode cX2_fits 134 = .ok (.iload_n 3, 1) := dk_29 (dk_at dksX2_fits_5 17 rfl rfl)
theorem dX2_fits_135 : decode cX2_fits 135 = .ok (.invokestatic 442, 3) := dk_184 1 186 (dk_at dksX2_fits_5 18 rfl rfl)
theorem dX2_fits_138 : decode cX2_fits 138 = .ok (.if_icmp .ne 13, 3) := dk_160 0 13 (dk_at dksX2_fits_5 21 rfl rfl)
theorem dX2_fits_141 : decode cX2_fits 141 = .ok (.iload 6, 2) := dk_21 6 (dk_at dksX2_fits_6 0 rfl rfl)
theorem dX2_fits_143 : decode cX2_fits 143 = .ok (.iload 4, 2) := dk_21 4 (dk_at dksX2_fits_6 2 rfl rfl)
theorem dX2_fits_145 : decode cX2_fits 145 = .ok (.if_icmp .lt 6, 3) := dk_161 0 6 (dk_at dksX2_fits_6 4 rfl rfl)
theorem dX2_fits_148 : decode cX2_fits 148 = .ok (.goto 10, 3) := dk_167 0 10 (dk_at dksX2_fits_6 7 rfl rfl)
theorem dX2_fits_151 : decode cX2_fits 151 = .ok (.iload 5, 2) := dk_21 5 (dk_at dksX2_fits_6 10 rfl rfl)
theorem dX2_fits_153 : decode cX2_fits 153 = .ok (.istore_n 3, 1) := dk_62 (dk_at dksX2_fits_6 12 rfl rfl)
theorem dX2_fits_154 : decode cX2_fits 154 = .ok (.iload 6, 2) := dk_21 6 (dk_at dksX2_fits_6 13 rfl rfl)
theorem dX2_fits_156 : decode cX2_fits 156 = .ok (.istore 4, 2) := dk_54 4 (dk_at dksX2_fits_6 15 rfl rfl)
theorem dX2_fits_158 : decode cX2_fits 158 = .ok (.iinc 5 1, 3) := dk_132 5 1 (dk_at dksX2_fits_6 17 rfl rfl)
theorem dX2_fits_161 : decode cX2_fits 161 = .ok (.goto (-128), 3) := dk_167 255 128 (dk_at dksX2_fits_6 20 rfl rfl)
theorem dX2_fits_164 : decode cX2_fits 164 = .ok (.iload_n 3, 1) := dk_29 (dk_at dksX2_fits_6 23 rfl rfl)
theorem dX2_fits_165 : decode cX2_fits 165 = .ok (.ireturn, 1) := dk_172 (dk_at dksX2_fits_7 0 rfl rfl)
abbrev MX2_fits : jjM := (yX2_fits, cX2_fits, 8, (Option.some Jvm.ClassFile.FieldType.int))
theorem npX2_fits : yX2_fits.cls ≠ "java/lang/invoke/MethodHandle" ∧ yX2_fits.cls ≠ "java/lang/invoke/VarHandle" ∧ (parseMethodDescriptor yX2_fits.desc).map (fun d => d.parameters.length) = some 1 := by decide +kernel
abbrev cX2_image : ByteArray := prog_17_method_140_code
def yX2_image : MethodName := ⟨RX2, "image", "()I"⟩
def dkwX2_image_0 : List UInt8 := [42, 180, 0, 7, 42, 180, 0, 13, 184, 0, 85, 42, 180, 0, 7, 4, 46, 172]
abbrev dktX2_image_0 : List UInt8 := dkwX2_image_0 ++ []
theorem dksX2_image_0 : cX2_image.data.toList.drop 0 = dktX2_image_0 := by decide +kernel
theorem dX2_image_0 : decode cX2_image 0 = .ok (.aload_n 0, 1) := dk_42 (dk_at dksX2_image_0 0 rfl rfl)
theorem dX2_image_1 : decode cX2_image 1 = .ok (.getfield 7, 3) := dk_180 0 7 (dk_at dksX2_image_0 1 rfl rfl)
theorem dX2_image_4 : decode cX2_image 4 = .ok (.aload_n 0, 1) := dk_42 (dk_at dksX2_image_0 4 rfl rfl)
theorem dX2_image_5 : decode cX2_image 5 = .ok (.getfield 13, 3) := dk_180 0 13 (dk_at dksX2_image_0 5 rfl rfl)
theorem dX2_image_8 : decode cX2_image 8 = .ok (.invokestatic 85, 3) := dk_184 0 85 (dk_at dksX2_image_0 8 rfl rfl)
theorem dX2_image_11 : decode cX2_image 11 = .ok (.aload_n 0, 1) := dk_42 (dk_at dksX2_image_0 11 rfl rfl)
theorem dX2_image_12 : decode cX2_image 12 = .ok (.getfield 7, 3) := dk_180 0 7 (dk_at dksX2_image_0 12 rfl rfl)
theorem dX2_image_15 : decode cX2_image 15 = .ok (.iconst 1, 1) := dk_4 (dk_at dksX2_image_0 15 rfl rfl)
theorem dX2_image_16 : decode cX2_image 16 = .ok (.iaload, 1) := dk_46 (dk_at dksX2_image_0 16 rfl rfl)
theorem dX2_image_17 : decode cX2_image 17 = .ok (.ireturn, 1) := dk_172 (dk_at dksX2_image_0 17 rfl rfl)
abbrev MX2_image : jjM := (yX2_image, cX2_image, 1, (Option.some Jvm.ClassFile.FieldType.int))
theorem npX2_image : yX2_image.cls ≠ "java/lang/invoke/MethodHandle" ∧ yX2_image.cls ≠ "java/lang/invoke/VarHandle" ∧ (parseMethodDescriptor yX2_image.desc).map (fun d => d.parameters.length) = some 0 := by decide +kernel
abbrev cX2_back : ByteArray := prog_17_method_141_code
def yX2_back : MethodName := ⟨RX2, "back", "()I"⟩
def dkwX2_back_0 : List UInt8 := [42, 180, 0, 13, 42, 180, 0, 7, 184, 0, 85, 42, 180, 0, 7, 4, 46, 172]
abbrev dktX2_back_0 : List UInt8 := dkwX2_back_0 ++ []
theorem dksX2_back_0 : cX2_back.data.toList.drop 0 = dktX2_back_0 := by decide +kernel
theorem dX2_back_0 : decode cX2_back 0 = .ok (.aload_n 0, 1) := dk_42 (dk_at dksX2_back_0 0 rfl rfl)
theorem dX2_back_1 : decode cX2_back 1 = .ok (.getfield 13, 3) := dk_180 0 13 (dk_at dksX2_back_0 1 rfl rfl)
theorem dX2_back_4 : decode cX2_back 4 = .ok (.aload_n 0, 1) := dk_42 (dk_at dksX2_back_0 4 rfl rfl)
theorem dX2_back_5 : decode cX2_back 5 = .ok (.getfield 7, 3) := dk_180 0 7 (dk_at dksX2_back_0 5 rfl rfl)
theorem dX2_back_8 : decode cX2_back 8 = .ok (.invokestatic 85, 3) := dk_184 0 85 (dk_at dksX2_back_0 8 rfl rfl)
theorem dX2_back_11 : decode cX2_back 11 = .ok (.aload_n 0, 1) := dk_42 (dk_at dksX2_back_0 11 rfl rfl)
theorem dX2_back_12 : decode cX2_back 12 = .ok (.getfield 7, 3) := dk_180 0 7 (dk_at dksX2_back_0 12 rfl rfl)
theorem dX2_back_15 : decode cX2_back 15 = .ok (.iconst 1, 1) := dk_4 (dk_at dksX2_back_0 15 rfl rfl)
theorem dX2_back_16 : decode cX2_back 16 = .ok (.iaload, 1) := dk_46 (dk_at dksX2_back_0 16 rfl rfl)
theorem dX2_back_17 : decode cX2_back 17 = .ok (.ireturn, 1) := dk_172 (dk_at dksX2_back_0 17 rfl rfl)
abbrev MX2_back : jjM := (yX2_back, cX2_back, 1, (Option.some Jvm.ClassFile.FieldType.int))
theorem npX2_back : yX2_back.cls ≠ "java/lang/invoke/MethodHandle" ∧ yX2_back.cls ≠ "java/lang/invoke/VarHandle" ∧ (parseMethodDescriptor yX2_back.desc).map (fun d => d.parameters.length) = some 0 := by decide +kernel
abbrev cX2_about : ByteArray := prog_17_method_142_code
def yX2_about : MethodName := ⟨RX2, "about", "(I)I"⟩
def dkwX2_about_3 : List UInt8 := [160, 0, 10, 42, 180, 0, 108, 167, 0, 5, 16, 254, 172]
abbrev dktX2_about_3 : List UInt8 := dkwX2_about_3 ++ []
def dkwX2_about_2 : List UInt8 := [27, 3, 16, 8, 184, 0, 89, 153, 0, 12, 42, 180, 0, 7, 27, 46, 167, 0, 18, 27, 16, 10]
abbrev dktX2_about_2 : List UInt8 := dkwX2_about_2 ++ dktX2_about_3
def dkwX2_about_1 : List UInt8 := [182, 0, 97, 7, 160, 0, 9, 4, 29, 120, 167, 0, 4, 3, 128, 61, 132, 3, 1, 167, 255, 223, 28, 172]
abbrev dktX2_about_1 : List UInt8 := dkwX2_about_1 ++ dktX2_about_2
def dkwX2_about_0 : List UInt8 := [27, 16, 9, 160, 0, 45, 3, 61, 3, 62, 29, 42, 180, 0, 7, 3, 46, 162, 0, 29, 28, 42, 29, 8]
abbrev dktX2_about_0 : List UInt8 := dkwX2_about_0 ++ dktX2_about_1
theorem dksX2_about_0 : cX2_about.data.toList.drop 0 = dktX2_about_0 := by decide +kernel
theorem dksX2_about_1 : cX2_about.data.toList.drop 24 = dktX2_about_1 := dk_seg dksX2_about_0 24 rfl rfl
theorem dksX2_about_2 : cX2_about.data.toList.drop 48 = dktX2_about_2 := dk_seg dksX2_about_1 24 rfl rfl
theorem dksX2_about_3 : cX2_about.data.toList.drop 70 = dktX2_about_3 := dk_seg dksX2_about_2 22 rfl rfl
theorem dX2_about_0 : decode cX2_about 0 = .ok (.iload_n 1, 1) := dk_27 (dk_at dksX2_about_0 0 rfl rfl)
theorem dX2_about_1 : decode cX2_about 1 = .ok (.bipush 9, 2) := dk_16 9 (dk_at dksX2_about_0 1 rfl rfl)
theorem dX2_about_3 : decode cX2_about 3 = .ok (.if_icmp .ne 45, 3) := dk_160 0 45 (dk_at dksX2_about_0 3 rfl rfl)
theorem dX2_about_6 : decode cX2_about 6 = .ok (.iconst 0, 1) := dk_3 (dk_at dksX2_about_0 6 rfl rfl)
theorem dX2_about_7 : decode cX2_about 7 = .ok (.istore_n 2, 1) := dk_61 (dk_at dksX2_about_0 7 rfl rfl)
theorem dX2_about_8 : decode cX2_about 8 = .ok (.iconst 0, 1) := dk_3 (dk_at dksX2_about_0 8 rfl rfl)
theorem dX2_about_9 : decode cX2_about 9 = .ok (.istore_n 3, 1) := dk_62 (dk_at dksX2_about_0 9 rfl rfl)
theorem dX2_about_10 : decode cX2_about 10 = .ok (.iload_n 3, 1) := dk_29 (dk_at dksX2_about_0 10 rfl rfl)
theorem dX2_about_11 : decode cX2_about 11 = .ok (.aload_n 0, 1) := dk_42 (dk_at dksX2_about_0 11 rfl rfl)
theorem dX2_about_12 : decode cX2_about 12 = .ok (.getfield 7, 3) := dk_180 0 7 (dk_at dksX2_about_0 12 rfl rfl)
theorem dX2_about_15 : decode cX2_about 15 = .ok (.iconst 0, 1) := dk_3 (dk_at dksX2_about_0 15 rfl rfl)
theorem dX2_about_16 : decode cX2_about 16 = .ok (.iaload, 1) := dk_46 (dk_at dksX2_about_0 16 rfl rfl)
theorem dX2_about_17 : decode cX2_about 17 = .ok (.if_icmp .ge 29, 3) := dk_162 0 29 (dk_at dksX2_about_0 17 rfl rfl)
theorem dX2_about_20 : decode cX2_about 20 = .ok (.iload_n 2, 1) := dk_28 (dk_at dksX2_about_0 20 rfl rfl)
theorem dX2_about_21 : decode cX2_about 21 = .ok (.aload_n 0, 1) := dk_42 (dk_at dksX2_about_0 21 rfl rfl)
theorem dX2_about_22 : decode cX2_about 22 = .ok (.iload_n 3, 1) := dk_29 (dk_at dksX2_about_0 22 rfl rfl)
theorem dX2_about_23 : decode cX2_about 23 = .ok (.iconst 5, 1) := dk_8 (dk_at dksX2_about_0 23 rfl rfl)
theorem dX2_about_24 : decode cX2_about 24 = .ok (.invokevirtual 97, 3) := dk_182 0 97 (dk_at dksX2_about_1 0 rfl rfl)
theorem dX2_about_27 : decode cX2_about 27 = .ok (.iconst 4, 1) := dk_7 (dk_at dksX2_about_1 3 rfl rfl)
theorem dX2_about_28 : decode cX2_about 28 = .ok (.if_icmp .ne 9, 3) := dk_160 0 9 (dk_at dksX2_about_1 4 rfl rfl)
theorem dX2_about_31 : decode cX2_about 31 = .ok (.iconst 1, 1) := dk_4 (dk_at dksX2_about_1 7 rfl rfl)
theorem dX2_about_32 : decode cX2_about 32 = .ok (.iload_n 3, 1) := dk_29 (dk_at dksX2_about_1 8 rfl rfl)
theorem dX2_about_33 : decode cX2_about 33 = .ok (.ishl, 1) := dk_120 (dk_at dksX2_about_1 9 rfl rfl)
theorem dX2_about_34 : decode cX2_about 34 = .ok (.goto 4, 3) := dk_167 0 4 (dk_at dksX2_about_1 10 rfl rfl)
theorem dX2_about_37 : decode cX2_about 37 = .ok (.iconst 0, 1) := dk_3 (dk_at dksX2_about_1 13 rfl rfl)
theorem dX2_about_38 : decode cX2_about 38 = .ok (.ior, 1) := dk_128 (dk_at dksX2_about_1 14 rfl rfl)
theorem dX2_about_39 : decode cX2_about 39 = .ok (.istore_n 2, 1) := dk_61 (dk_at dksX2_about_1 15 rfl rfl)
theorem dX2_about_40 : decode cX2_about 40 = .ok (.iinc 3 1, 3) := dk_132 3 1 (dk_at dksX2_about_1 16 rfl rfl)
theorem dX2_about_43 : decode cX2_about 43 = .ok (.goto (-33), 3) := dk_167 255 223 (dk_at dksX2_about_1 19 rfl rfl)
theorem dX2_about_46 : decode cX2_about 46 = .ok (.iload_n 2, 1) := dk_28 (dk_at dksX2_about_1 22 rfl rfl)
theorem dX2_about_47 : decode cX2_about 47 = .ok (.ireturn, 1) := dk_172 (dk_at dksX2_about_1 23 rfl rfl)
theorem dX2_about_48 : decode cX2_about 48 = .ok (.iload_n 1, 1) := dk_27 (dk_at dksX2_about_2 0 rfl rfl)
theorem dX2_about_49 : decode cX2_about 49 = .ok (.iconst 0, 1) := dk_3 (dk_at dksX2_about_2 1 rfl rfl)
theorem dX2_about_50 : decode cX2_about 50 = .ok (.bipush 8, 2) := dk_16 8 (dk_at dksX2_about_2 2 rfl rfl)
theorem dX2_about_52 : decode cX2_about 52 = .ok (.invokestatic 89, 3) := dk_184 0 89 (dk_at dksX2_about_2 4 rfl rfl)
theorem dX2_about_55 : decode cX2_about 55 = .ok (.ifCond .eq 12, 3) := dk_153 0 12 (dk_at dksX2_about_2 7 rfl rfl)
theorem dX2_about_58 : decode cX2_about 58 = .ok (.aload_n 0, 1) := dk_42 (dk_at dksX2_about_2 10 rfl rfl)
theorem dX2_about_59 : decode cX2_about 59 = .ok (.getfield 7, 3) := dk_180 0 7 (dk_at dksX2_about_2 11 rfl rfl)
theorem dX2_about_62 : decode cX2_about 62 = .ok (.iload_n 1, 1) := dk_27 (dk_at dksX2_about_2 14 rfl rfl)
theorem dX2_about_63 : decode cX2_about 63 = .ok (.iaload, 1) := dk_46 (dk_at dksX2_about_2 15 rfl rfl)
theorem dX2_about_64 : decode cX2_about 64 = .ok (.goto 18, 3) := dk_167 0 18 (dk_at dksX2_about_2 16 rfl rfl)
theorem dX2_about_67 : decode cX2_about 67 = .ok (.iload_n 1, 1) := dk_27 (dk_at dksX2_about_2 19 rfl rfl)
theorem dX2_about_68 : decode cX2_about 68 = .ok (.bipush 10, 2) := dk_16 10 (dk_at dksX2_about_2 20 rfl rfl)
theorem dX2_about_70 : decode cX2_about 70 = .ok (.if_icmp .ne 10, 3) := dk_160 0 10 (dk_at dksX2_about_3 0 rfl rfl)
theorem dX2_about_73 : decode cX2_about 73 = .ok (.aload_n 0, 1) := dk_42 (dk_at dksX2_about_3 3 rfl rfl)
theorem dX2_about_74 : decode cX2_about 74 = .ok (.getfield 108, 3) := dk_180 0 108 (dk_at dksX2_about_3 4 rfl rfl)
theorem dX2_about_77 : decode cX2_about 77 = .ok (.goto 5, 3) := dk_167 0 5 (dk_at dksX2_about_3 7 rfl rfl)
theorem dX2_about_80 : decode cX2_about 80 = .ok (.bipush (-2), 2) := dk_16 254 (dk_at dksX2_about_3 10 rfl rfl)
theorem dX2_about_82 : decode cX2_about 82 = .ok (.ireturn, 1) := dk_172 (dk_at dksX2_about_3 12 rfl rfl)
abbrev MX2_about : jjM := (yX2_about, cX2_about, 4, (Option.some Jvm.ClassFile.FieldType.int))
theorem npX2_about : yX2_about.cls ≠ "java/lang/invoke/MethodHandle" ∧ yX2_about.cls ≠ "java/lang/invoke/VarHandle" ∧ (parseMethodDescriptor yX2_about.desc).map (fun d => d.parameters.length) = some 1 := by decide +kernel
abbrev cX3_init : ByteArray := prog_14_method_1_code
def yX3_init : MethodName := ⟨RX3, "<init>", "([BI)V"⟩
def dkwX3_init_0 : List UInt8 := [42, 183, 0, 3, 42, 43, 181, 0, 9, 42, 28, 181, 0, 15, 177]
abbrev dktX3_init_0 : List UInt8 := dkwX3_init_0 ++ []
theorem dksX3_init_0 : cX3_init.data.toList.drop 0 = dktX3_init_0 := by decide +kernel
theorem dX3_init_0 : decode cX3_init 0 = .ok (.aload_n 0, 1) := dk_42 (dk_at dksX3_init_0 0 rfl rfl)
theorem dX3_init_1 : decode cX3_init 1 = .ok (.invokespecial 3, 3) := dk_183 0 3 (dk_at dksX3_init_0 1 rfl rfl)
theorem dX3_init_4 : decode cX3_init 4 = .ok (.aload_n 0, 1) := dk_42 (dk_at dksX3_init_0 4 rfl rfl)
theorem dX3_init_5 : decode cX3_init 5 = .ok (.aload_n 1, 1) := dk_43 (dk_at dksX3_init_0 5 rfl rfl)
theorem dX3_init_6 : decode cX3_init 6 = .ok (.putfield 9, 3) := dk_181 0 9 (dk_at dksX3_init_0 6 rfl rfl)
theorem dX3_init_9 : decode cX3_init 9 = .ok (.aload_n 0, 1) := dk_42 (dk_at dksX3_init_0 9 rfl rfl)
theorem dX3_init_10 : decode cX3_init 10 = .ok (.iload_n 2, 1) := dk_28 (dk_at dksX3_init_0 10 rfl rfl)
theorem dX3_init_11 : decode cX3_init 11 = .ok (.putfield 15, 3) := dk_181 0 15 (dk_at dksX3_init_0 11 rfl rfl)
theorem dX3_init_14 : decode cX3_init 14 = .ok (.return_, 1) := dk_177 (dk_at dksX3_init_0 14 rfl rfl)
abbrev MX3_init : jjM := (yX3_init, cX3_init, 3, (Option.none : Option Jvm.ClassFile.FieldType))
theorem npX3_init : yX3_init.cls ≠ "java/lang/invoke/MethodHandle" ∧ yX3_init.cls ≠ "java/lang/invoke/VarHandle" ∧ (parseMethodDescriptor yX3_init.desc).map (fun d => d.parameters.length) = some 2 := by decide +kernel
abbrev cX3_read : ByteArray := prog_14_method_10_code
def yX3_read : MethodName := ⟨RX3, "read", "()LSelfSorting$Text;"⟩
def dkwX3_read_6 : List UInt8 := [182, 0, 104, 43, 89, 180, 0, 97, 4, 96, 181, 0, 97, 167, 255, 114, 43, 176]
abbrev dktX3_read_6 : List UInt8 := dkwX3_read_6 ++ []
def dkwX3_read_5 : List UInt8 := [16, 24, 160, 0, 10, 42, 16, 6, 182, 0, 70, 191, 42, 182, 0, 74, 42, 43, 182, 0, 100, 42, 16, 59]
abbrev dktX3_read_5 : List UInt8 := dkwX3_read_5 ++ dktX3_read_6
def dkwX3_read_4 : List UInt8 := [17, 0, 203, 160, 0, 16, 43, 180, 0, 94, 158, 0, 9, 42, 7, 182, 0, 70, 191, 43, 180, 0, 97]
abbrev dktX3_read_4 : List UInt8 := dkwX3_read_4 ++ dktX3_read_5
def dkwX3_read_3 : List UInt8 := [199, 0, 37, 42, 180, 0, 83, 17, 0, 202, 160, 0, 10, 43, 180, 0, 90, 199, 0, 20, 42, 180, 0, 83]
abbrev dktX3_read_3 : List UInt8 := dkwX3_read_3 ++ dktX3_read_4
def dkwX3_read_2 : List UInt8 := [191, 42, 42, 180, 0, 25, 181, 0, 83, 42, 180, 0, 83, 17, 0, 201, 160, 0, 10, 43, 180, 0, 86]
abbrev dktX3_read_2 : List UInt8 := dkwX3_read_2 ++ dktX3_read_3
def dkwX3_read_1 : List UInt8 := [180, 0, 25, 17, 0, 200, 161, 0, 13, 42, 180, 0, 25, 17, 0, 209, 164, 0, 9, 42, 4, 182, 0, 70]
abbrev dktX3_read_1 : List UInt8 := dkwX3_read_1 ++ dktX3_read_2
def dkwX3_read_0 : List UInt8 := [187, 0, 80, 89, 183, 0, 82, 76, 42, 182, 0, 74, 42, 180, 0, 25, 17, 1, 45, 159, 0, 138, 42]
abbrev dktX3_read_0 : List UInt8 := dkwX3_read_0 ++ dktX3_read_1
theorem dksX3_read_0 : cX3_read.data.toList.drop 0 = dktX3_read_0 := by decide +kernel
theorem dksX3_read_1 : cX3_read.data.toList.drop 23 = dktX3_read_1 := dk_seg dksX3_read_0 23 rfl rfl
theorem dksX3_read_2 : cX3_read.data.toList.drop 47 = dktX3_read_2 := dk_seg dksX3_read_1 24 rfl rfl
theorem dksX3_read_3 : cX3_read.data.toList.drop 70 = dktX3_read_3 := dk_seg dksX3_read_2 23 rfl rfl
theorem dksX3_read_4 : cX3_read.data.toList.drop 94 = dktX3_read_4 := dk_seg dksX3_read_3 24 rfl rfl
theorem dksX3_read_5 : cX3_read.data.toList.drop 117 = dktX3_read_5 := dk_seg dksX3_read_4 23 rfl rfl
theorem dksX3_read_6 : cX3_read.data.toList.drop 141 = dktX3_read_6 := dk_seg dksX3_read_5 24 rfl rfl
theorem dX3_read_0 : decode cX3_read 0 = .ok (.new 80, 3) := dk_187 0 80 (dk_at dksX3_read_0 0 rfl rfl)
theorem dX3_read_3 : decode cX3_read 3 = .ok (.dup, 1) := dk_89 (dk_at dksX3_read_0 3 rfl rfl)
theorem dX3_read_4 : decode cX3_read 4 = .ok (.invokespecial 82, 3) := dk_183 0 82 (dk_at dksX3_read_0 4 rfl rfl)
theorem dX3_read_7 : decode cX3_read 7 = .ok (.astore_n 1, 1) := dk_76 (dk_at dksX3_read_0 7 rfl rfl)
theorem dX3_read_8 : decode cX3_read 8 = .ok (.aload_n 0, 1) := dk_42 (dk_at dksX3_read_0 8 rfl rfl)
theorem dX3_read_9 : decode cX3_read 9 = .ok (.invokevirtual 74, 3) := dk_182 0 74 (dk_at dksX3_read_0 9 rfl rfl)
theorem dX3_read_12 : decode cX3_read 12 = .ok (.aload_n 0, 1) := dk_42 (dk_at dksX3_read_0 12 rfl rfl)
theorem dX3_read_13 : decode cX3_read 13 = .ok (.getfield 25, 3) := dk_180 0 25 (dk_at dksX3_read_0 13 rfl rfl)
theorem dX3_read_16 : decode cX3_read 16 = .ok (.sipush 301, 3) := dk_17 1 45 (dk_at dksX3_read_0 16 rfl rfl)
theorem dX3_read_19 : decode cX3_read 19 = .ok (.if_icmp .eq 138, 3) := dk_159 0 138 (dk_at dksX3_read_0 19 rfl rfl)
theorem dX3_read_22 : decode cX3_read 22 = .ok (.aload_n 0, 1) := dk_42 (dk_at dksX3_read_0 22 rfl rfl)
theorem dX3_read_23 : decode cX3_read 23 = .ok (.getfield 25, 3) := dk_180 0 25 (dk_at dksX3_read_1 0 rfl rfl)
theorem dX3_read_26 : decode cX3_read 26 = .ok (.sipush 200, 3) := dk_17 0 200 (dk_at dksX3_read_1 3 rfl rfl)
theorem dX3_read_29 : decode cX3_read 29 = .ok (.if_icmp .lt 13, 3) := dk_161 0 13 (dk_at dksX3_read_1 6 rfl rfl)
theorem dX3_read_32 : decode cX3_read 32 = .ok (.aload_n 0, 1) := dk_42 (dk_at dksX3_read_1 9 rfl rfl)
theorem dX3_read_33 : decode cX3_read 33 = .ok (.getfield 25, 3) := dk_180 0 25 (dk_at dksX3_read_1 10 rfl rfl)
theorem dX3_read_36 : decode cX3_read 36 = .ok (.sipush 209, 3) := dk_17 0 209 (dk_at dksX3_read_1 13 rfl rfl)
theorem dX3_read_39 : decode cX3_read 39 = .ok (.if_icmp .le 9, 3) := dk_164 0 9 (dk_at dksX3_read_1 16 rfl rfl)
theorem dX3_read_42 : decode cX3_read 42 = .ok (.aload_n 0, 1) := dk_42 (dk_at dksX3_read_1 19 rfl rfl)
theorem dX3_read_43 : decode cX3_read 43 = .ok (.iconst 1, 1) := dk_4 (dk_at dksX3_read_1 20 rfl rfl)
theorem dX3_read_44 : decode cX3_read 44 = .ok (.invokevirtual 70, 3) := dk_182 0 70 (dk_at dksX3_read_1 21 rfl rfl)
theorem dX3_read_47 : decode cX3_read 47 = .ok (.athrow, 1) := dk_191 (dk_at dksX3_read_2 0 rfl rfl)
theorem dX3_read_48 : decode cX3_read 48 = .ok (.aload_n 0, 1) := dk_42 (dk_at dksX3_read_2 1 rfl rfl)
theorem dX3_read_49 : decode cX3_read 49 = .ok (.aload_n 0, 1) := dk_42 (dk_at dksX3_read_2 2 rfl rfl)
theorem dX3_read_50 : decode cX3_read 50 = .ok (.getfield 25, 3) := dk_180 0 25 (dk_at dksX3_read_2 3 rfl rfl)
theorem dX3_read_53 : decode cX3_read 53 = .ok (.putfield 83, 3) := dk_181 0 83 (dk_at dksX3_read_2 6 rfl rfl)
theorem dX3_read_56 : decode cX3_read 56 = .ok (.aload_n 0, 1) := dk_42 (dk_at dksX3_read_2 9 rfl rfl)
theorem dX3_read_57 : decode cX3_read 57 = .ok (.getfield 83, 3) := dk_180 0 83 (dk_at dksX3_read_2 10 rfl rfl)
theorem dX3_read_60 : decode cX3_read 60 = .ok (.sipush 201, 3) := dk_17 0 201 (dk_at dksX3_read_2 13 rfl rfl)
theorem dX3_read_63 : decode cX3_read 63 = .ok (.if_icmp .ne 10, 3) := dk_160 0 10 (dk_at dksX3_read_2 16 rfl rfl)
theorem dX3_read_66 : decode cX3_read 66 = .ok (.aload_n 1, 1) := dk_43 (dk_at dksX3_read_2 19 rfl rfl)
theorem dX3_read_67 : decode cX3_read 67 = .ok (.getfield 86, 3) := dk_180 0 86 (dk_at dksX3_read_2 20 rfl rfl)
theorem dX3_read_70 : decode cX3_read 70 = .ok (.ifnonnull 37, 3) := dk_199 0 37 (dk_at dksX3_read_3 0 rfl rfl)
theorem dX3_read_73 : decode cX3_read 73 = .ok (.aload_n 0, 1) := dk_42 (dk_at dksX3_read_3 3 rfl rfl)
theorem dX3_read_74 : decode cX3_read 74 = .ok (.getfield 83, 3) := dk_180 0 83 (dk_at dksX3_read_3 4 rfl rfl)
theorem dX3_read_77 : decode cX3_read 77 = .ok (.sipush 202, 3) := dk_17 0 202 (dk_at dksX3_read_3 7 rfl rfl)
theorem dX3_read_80 : decode cX3_read 80 = .ok (.if_icmp .ne 10, 3) := dk_160 0 10 (dk_at dksX3_read_3 10 rfl rfl)
theorem dX3_read_83 : decode cX3_read 83 = .ok (.aload_n 1, 1) := dk_43 (dk_at dksX3_read_3 13 rfl rfl)
theorem dX3_read_84 : decode cX3_read 84 = .ok (.getfield 90, 3) := dk_180 0 90 (dk_at dksX3_read_3 14 rfl rfl)
theorem dX3_read_87 : decode cX3_read 87 = .ok (.ifnonnull 20, 3) := dk_199 0 20 (dk_at dksX3_read_3 17 rfl rfl)
theorem dX3_read_90 : decode cX3_read 90 = .ok (.aload_n 0, 1) := dk_42 (dk_at dksX3_read_3 20 rfl rfl)
theorem dX3_read_91 : decode cX3_read 91 = .ok (.getfield 83, 3) := dk_180 0 83 (dk_at dksX3_read_3 21 rfl rfl)
theorem dX3_read_94 : decode cX3_read 94 = .ok (.sipush 203, 3) := dk_17 0 203 (dk_at dksX3_read_4 0 rfl rfl)
theorem dX3_read_97 : decode cX3_read 97 = .ok (.if_icmp .ne 16, 3) := dk_160 0 16 (dk_at dksX3_read_4 3 rfl rfl)
theorem dX3_read_100 : decode cX3_read 100 = .ok (.aload_n 1, 1) := dk_43 (dk_at dksX3_read_4 6 rfl rfl)
theorem dX3_read_101 : decode cX3_read 101 = .ok (.getfield 94, 3) := dk_180 0 94 (dk_at dksX3_read_4 7 rfl rfl)
theorem dX3_read_104 : decode cX3_read 104 = .ok (.ifCond .le 9, 3) := dk_158 0 9 (dk_at dksX3_read_4 10 rfl rfl)
theorem dX3_read_107 : decode cX3_read 107 = .ok (.aload_n 0, 1) := dk_42 (dk_at dksX3_read_4 13 rfl rfl)
theorem dX3_read_108 : decode cX3_read 108 = .ok (.iconst 4, 1) := dk_7 (dk_at dksX3_read_4 14 rfl rfl)
theorem dX3_read_109 : decode cX3_read 109 = .ok (.invokevirtual 70, 3) := dk_182 0 70 (dk_at dksX3_read_4 15 rfl rfl)
theorem dX3_read_112 : decode cX3_read 112 = .ok (.athrow, 1) := dk_191 (dk_at dksX3_read_4 18 rfl rfl)
theorem dX3_read_113 : decode cX3_read 113 = .ok (.aload_n 1, 1) := dk_43 (dk_at dksX3_read_4 19 rfl rfl)
theorem dX3_read_114 : decode cX3_read 114 = .ok (.getfield 97, 3) := dk_180 0 97 (dk_at dksX3_read_4 20 rfl rfl)
theorem dX3_read_117 : decode cX3_read 117 = .ok (.bipush 24, 2) := dk_16 24 (dk_at dksX3_read_5 0 rfl rfl)
theorem dX3_read_119 : decode cX3_read 119 = .ok (.if_icmp .ne 10, 3) := dk_160 0 10 (dk_at dksX3_read_5 2 rfl rfl)
theorem dX3_read_122 : decode cX3_read 122 = .ok (.aload_n 0, 1) := dk_42 (dk_at dksX3_read_5 5 rfl rfl)
theorem dX3_read_123 : decode cX3_read 123 = .ok (.bipush 6, 2) := dk_16 6 (dk_at dksX3_read_5 6 rfl rfl)
theorem dX3_read_125 : decode cX3_read 125 = .ok (.invokevirtual 70, 3) := dk_182 0 70 (dk_at dksX3_read_5 8 rfl rfl)
theorem dX3_read_128 : decode cX3_read 128 = .ok (.athrow, 1) := dk_191 (dk_at dksX3_read_5 11 rfl rfl)
theorem dX3_read_129 : decode cX3_read 129 = .ok (.aload_n 0, 1) := dk_42 (dk_at dksX3_read_5 12 rfl rfl)
theorem dX3_read_130 : decode cX3_read 130 = .ok (.invokevirtual 74, 3) := dk_182 0 74 (dk_at dksX3_read_5 13 rfl rfl)
theorem dX3_read_133 : decode cX3_read 133 = .ok (.aload_n 0, 1) := dk_42 (dk_at dksX3_read_5 16 rfl rfl)
theorem dX3_read_134 : decode cX3_read 134 = .ok (.aload_n 1, 1) := dk_43 (dk_at dksX3_read_5 17 rfl rfl)
theorem dX3_read_135 : decode cX3_read 135 = .ok (.invokevirtual 100, 3) := dk_182 0 100 (dk_at dksX3_read_5 18 rfl rfl)
theorem dX3_read_138 : decode cX3_read 138 = .ok (.aload_n 0, 1) := dk_42 (dk_at dksX3_read_5 21 rfl rfl)
theorem dX3_read_139 : decode cX3_read 139 = .ok (.bipush 59, 2) := dk_16 59 (dk_at dksX3_read_5 22 rfl rfl)
theorem dX3_read_141 : decode cX3_read 141 = .ok (.invokevirtual 104, 3) := dk_182 0 104 (dk_at dksX3_read_6 0 rfl rfl)
theorem dX3_read_144 : decode cX3_read 144 = .ok (.aload_n 1, 1) := dk_43 (dk_at dksX3_read_6 3 rfl rfl)
theorem dX3_read_145 : decode cX3_read 145 = .ok (.dup, 1) := dk_89 (dk_at dksX3_read_6 4 rfl rfl)
theorem dX3_read_146 : decode cX3_read 146 = .ok (.getfield 97, 3) := dk_180 0 97 (dk_at dksX3_read_6 5 rfl rfl)
theorem dX3_read_149 : decode cX3_read 149 = .ok (.iconst 1, 1) := dk_4 (dk_at dksX3_read_6 8 rfl rfl)
theorem dX3_read_150 : decode cX3_read 150 = .ok (.iadd, 1) := dk_96 (dk_at dksX3_read_6 9 rfl rfl)
theorem dX3_read_151 : decode cX3_read 151 = .ok (.putfield 97, 3) := dk_181 0 97 (dk_at dksX3_read_6 10 rfl rfl)
theorem dX3_read_154 : decode cX3_read 154 = .ok (.goto (-142), 3) := dk_167 255 114 (dk_at dksX3_read_6 13 rfl rfl)
theorem dX3_read_157 : decode cX3_read 157 = .ok (.aload_n 1, 1) := dk_43 (dk_at dksX3_read_6 16 rfl rfl)
theorem dX3_read_158 : decode cX3_read 158 = .ok (.areturn, 1) := dk_176 (dk_at dksX3_read_6 17 rfl rfl)
abbrev MX3_read : jjM := (yX3_read, cX3_read, 2, (Option.some (Jvm.ClassFile.FieldType.object "SelfSorting$Text")))
theorem npX3_read : yX3_read.cls ≠ "java/lang/invoke/MethodHandle" ∧ yX3_read.cls ≠ "java/lang/invoke/VarHandle" ∧ (parseMethodDescriptor yX3_read.desc).map (fun d => d.parameters.length) = some 0 := by decide +kernel
abbrev cX3_next : ByteArray := prog_14_method_4_code
def yX3_next : MethodName := ⟨RX3, "next", "()V"⟩
def dkwX3_next_17 : List UInt8 := [4, 96, 181, 0, 19, 177]
abbrev dktX3_next_17 : List UInt8 := dkwX3_next_17 ++ []
def dkwX3_next_16 : List UInt8 := [42, 27, 16, 60, 160, 0, 9, 17, 1, 47, 167, 0, 6, 17, 1, 48, 181, 0, 25, 42, 89, 180, 0, 19]
abbrev dktX3_next_16 : List UInt8 := dkwX3_next_16 ++ dktX3_next_17
def dkwX3_next_15 : List UInt8 := [180, 0, 19, 42, 180, 0, 15, 162, 0, 46, 42, 180, 0, 9, 42, 180, 0, 19, 51, 16, 61, 160, 0, 32]
abbrev dktX3_next_15 : List UInt8 := dkwX3_next_15 ++ dktX3_next_16
def dkwX3_next_14 : List UInt8 := [42, 27, 181, 0, 25, 132, 2, 1, 167, 255, 229, 27, 16, 60, 159, 0, 9, 27, 16, 62, 160, 0, 57, 42]
abbrev dktX3_next_14 : List UInt8 := dkwX3_next_14 ++ dktX3_next_15
def dkwX3_next_13 : List UInt8 := [181, 0, 25, 3, 61, 28, 18, 53, 182, 0, 55, 162, 0, 24, 18, 53, 28, 182, 0, 61, 27, 160, 0, 8]
abbrev dktX3_next_13 : List UInt8 := dkwX3_next_13 ++ dktX3_next_14
def dkwX3_next_12 : List UInt8 := [42, 180, 0, 9, 42, 180, 0, 19, 51, 60, 42, 89, 180, 0, 19, 4, 96, 181, 0, 19, 42, 17, 1, 46]
abbrev dktX3_next_12 : List UInt8 := dkwX3_next_12 ++ dktX3_next_13
def dkwX3_next_11 : List UInt8 := [51, 96, 16, 48, 100, 184, 0, 47, 181, 0, 43, 42, 89, 180, 0, 19, 4, 96, 181, 0, 19, 167, 255, 191]
abbrev dktX3_next_11 : List UInt8 := dkwX3_next_11 ++ dktX3_next_12
def dkwX3_next_10 : List UInt8 := [184, 0, 40, 153, 0, 170, 42, 18, 46, 16, 10, 42, 180, 0, 43, 104, 42, 180, 0, 9, 42, 180, 0, 19]
abbrev dktX3_next_10 : List UInt8 := dkwX3_next_10 ++ dktX3_next_11
def dkwX3_next_9 : List UInt8 := [181, 0, 43, 42, 180, 0, 19, 42, 180, 0, 15, 162, 0, 185, 42, 180, 0, 9, 42, 180, 0, 19, 51]
abbrev dktX3_next_9 : List UInt8 := dkwX3_next_9 ++ dktX3_next_10
def dkwX3_next_8 : List UInt8 := [42, 180, 0, 9, 42, 180, 0, 19, 51, 184, 0, 40, 153, 0, 83, 42, 17, 1, 44, 181, 0, 25, 42, 3]
abbrev dktX3_next_8 : List UInt8 := dkwX3_next_8 ++ dktX3_next_9
def dkwX3_next_7 : List UInt8 := [182, 0, 36, 153, 0, 12, 42, 17, 0, 200, 27, 96, 181, 0, 25, 132, 1, 1, 167, 255, 224, 167, 0, 223]
abbrev dktX3_next_7 : List UInt8 := dkwX3_next_7 ++ dktX3_next_8
def dkwX3_next_6 : List UInt8 := [17, 1, 46, 181, 0, 25, 3, 60, 27, 178, 0, 32, 190, 162, 0, 30, 42, 178, 0, 32, 27, 50]
abbrev dktX3_next_6 : List UInt8 := dkwX3_next_6 ++ dktX3_next_7
def dkwX3_next_5 : List UInt8 := [180, 0, 19, 51, 184, 0, 28, 153, 0, 16, 42, 89, 180, 0, 19, 4, 96, 181, 0, 19, 167, 255, 220, 42]
abbrev dktX3_next_5 : List UInt8 := dkwX3_next_5 ++ dktX3_next_6
def dkwX3_next_4 : List UInt8 := [184, 0, 28, 153, 0, 89, 42, 180, 0, 19, 42, 180, 0, 15, 162, 0, 31, 42, 180, 0, 9, 42]
abbrev dktX3_next_4 : List UInt8 := dkwX3_next_4 ++ dktX3_next_5
def dkwX3_next_3 : List UInt8 := [160, 0, 13, 42, 17, 1, 45, 181, 0, 25, 167, 1, 68, 42, 180, 0, 9, 42, 180, 0, 19, 51]
abbrev dktX3_next_3 : List UInt8 := dkwX3_next_3 ++ dktX3_next_4
def dkwX3_next_2 : List UInt8 := [181, 0, 19, 167, 255, 207, 42, 42, 180, 0, 19, 181, 0, 22, 42, 180, 0, 19, 42, 180, 0, 15]
abbrev dktX3_next_2 : List UInt8 := dkwX3_next_2 ++ dktX3_next_3
def dkwX3_next_1 : List UInt8 := [159, 0, 17, 42, 180, 0, 9, 42, 180, 0, 19, 51, 16, 10, 160, 0, 16, 42, 89, 180, 0, 19, 4, 96]
abbrev dktX3_next_1 : List UInt8 := dkwX3_next_1 ++ dktX3_next_2
def dkwX3_next_0 : List UInt8 := [42, 180, 0, 19, 42, 180, 0, 15, 162, 0, 44, 42, 180, 0, 9, 42, 180, 0, 19, 51, 16, 32]
abbrev dktX3_next_0 : List UInt8 := dkwX3_next_0 ++ dktX3_next_1
theorem dksX3_next_0 : cX3_next.data.toList.drop 0 = dktX3_next_0 := by decide +kernel
theorem dksX3_next_1 : cX3_next.data.toList.drop 22 = dktX3_next_1 := dk_seg dksX3_next_0 22 rfl rfl
theorem dksX3_next_2 : cX3_next.data.toList.drop 46 = dktX3_next_2 := dk_seg dksX3_next_1 24 rfl rfl
theorem dksX3_next_3 : cX3_next.data.toList.drop 68 = dktX3_next_3 := dk_seg dksX3_next_2 22 rfl rfl
theorem dksX3_next_4 : cX3_next.data.toList.drop 90 = dktX3_next_4 := dk_seg dksX3_next_3 22 rfl rfl
theorem dksX3_next_5 : cX3_next.data.toList.drop 112 = dktX3_next_5 := dk_seg dksX3_next_4 22 rfl rfl
theorem dksX3_next_6 : cX3_next.data.toList.drop 136 = dktX3_next_6 := dk_seg dksX3_next_5 24 rfl rfl
theorem dksX3_next_7 : cX3_next.data.toList.drop 158 = dktX3_next_7 := dk_seg dksX3_next_6 22 rfl rfl
theorem dksX3_next_8 : cX3_next.data.toList.drop 182 = dktX3_next_8 := dk_seg dksX3_next_7 24 rfl rfl
theorem dksX3_next_9 : cX3_next.data.toList.drop 206 = dktX3_next_9 := dk_seg dksX3_next_8 24 rfl rfl
theorem dksX3_next_10 : cX3_next.data.toList.drop 229 = dktX3_next_10 := dk_seg dksX3_next_9 23 rfl rfl
theorem dksX3_next_11 : cX3_next.data.toList.drop 253 = dktX3_next_11 := dk_seg dksX3_next_10 24 rfl rfl
theorem dksX3_next_12 : cX3_next.data.toList.drop 277 = dktX3_next_12 := dk_seg dksX3_next_11 24 rfl rfl
theorem dksX3_next_13 : cX3_next.data.toList.drop 301 = dktX3_next_13 := dk_seg dksX3_next_12 24 rfl rfl
theorem dksX3_next_14 : cX3_next.data.toList.drop 325 = dktX3_next_14 := dk_seg dksX3_next_13 24 rfl rfl
theorem dksX3_next_15 : cX3_next.data.toList.drop 349 = dktX3_next_15 := dk_seg dksX3_next_14 24 rfl rfl
theorem dksX3_next_16 : cX3_next.data.toList.drop 373 = dktX3_next_16 := dk_seg dksX3_next_15 24 rfl rfl
theorem dksX3_next_17 : cX3_next.data.toList.drop 397 = dktX3_next_17 := dk_seg dksX3_next_16 24 rfl rfl
theorem dX3_next_0 : decode cX3_next 0 = .ok (.aload_n 0, 1) := dk_42 (dk_at dksX3_next_0 0 rfl rfl)
theorem dX3_next_1 : decode cX3_next 1 = .ok (.getfield 19, 3) := dk_180 0 19 (dk_at dksX3_next_0 1 rfl rfl)
theorem dX3_next_4 : decode cX3_next 4 = .ok (.aload_n 0, 1) := dk_42 (dk_at dksX3_next_0 4 rfl rfl)
theorem dX3_next_5 : decode cX3_next 5 = .ok (.getfield 15, 3) := dk_180 0 15 (dk_at dksX3_next_0 5 rfl rfl)
theorem dX3_next_8 : decode cX3_next 8 = .ok (.if_icmp .ge 44, 3) := dk_162 0 44 (dk_at dksX3_next_0 8 rfl rfl)
theorem dX3_next_11 : decode cX3_next 11 = .ok (.aload_n 0, 1) := dk_42 (dk_at dksX3_next_0 11 rfl rfl)
theorem dX3_next_12 : decode cX3_next 12 = .ok (.getfield 9, 3) := dk_180 0 9 (dk_at dksX3_next_0 12 rfl rfl)
theorem dX3_next_15 : decode cX3_next 15 = .ok (.aload_n 0, 1) := dk_42 (dk_at dksX3_next_0 15 rfl rfl)
theorem dX3_next_16 : decode cX3_next 16 = .ok (.getfield 19, 3) := dk_180 0 19 (dk_at dksX3_next_0 16 rfl rfl)
theorem dX3_next_19 : decode cX3_next 19 = .ok (.baload, 1) := dk_51 (dk_at dksX3_next_0 19 rfl rfl)
theorem dX3_next_20 : decode cX3_next 20 = .ok (.bipush 32, 2) := dk_16 32 (dk_at dksX3_next_0 20 rfl rfl)
theorem dX3_next_22 : decode cX3_next 22 = .ok (.if_icmp .eq 17, 3) := dk_159 0 17 (dk_at dksX3_next_1 0 rfl rfl)
theorem dX3_next_25 : decode cX3_next 25 = .ok (.aload_n 0, 1) := dk_42 (dk_at dksX3_next_1 3 rfl rfl)
theorem dX3_next_26 : decode cX3_next 26 = .ok (.getfield 9, 3) := dk_180 0 9 (dk_at dksX3_next_1 4 rfl rfl)
theorem dX3_next_29 : decode cX3_next 29 = .ok (.aload_n 0, 1) := dk_42 (dk_at dksX3_next_1 7 rfl rfl)
theorem dX3_next_30 : decode cX3_next 30 = .ok (.getfield 19, 3) := dk_180 0 19 (dk_at dksX3_next_1 8 rfl rfl)
theorem dX3_next_33 : decode cX3_next 33 = .ok (.baload, 1) := dk_51 (dk_at dksX3_next_1 11 rfl rfl)
theorem dX3_next_34 : decode cX3_next 34 = .ok (.bipush 10, 2) := dk_16 10 (dk_at dksX3_next_1 12 rfl rfl)
theorem dX3_next_36 : decode cX3_next 36 = .ok (.if_icmp .ne 16, 3) := dk_160 0 16 (dk_at dksX3_next_1 14 rfl rfl)
theorem dX3_next_39 : decode cX3_next 39 = .ok (.aload_n 0, 1) := dk_42 (dk_at dksX3_next_1 17 rfl rfl)
theorem dX3_next_40 : decode cX3_next 40 = .ok (.dup, 1) := dk_89 (dk_at dksX3_next_1 18 rfl rfl)
theorem dX3_next_41 : decode cX3_next 41 = .ok (.getfield 19, 3) := dk_180 0 19 (dk_at dksX3_next_1 19 rfl rfl)
theorem dX3_next_44 : decode cX3_next 44 = .ok (.iconst 1, 1) := dk_4 (dk_at dksX3_next_1 22 rfl rfl)
theorem dX3_next_45 : decode cX3_next 45 = .ok (.iadd, 1) := dk_96 (dk_at dksX3_next_1 23 rfl rfl)
theorem dX3_next_46 : decode cX3_next 46 = .ok (.putfield 19, 3) := dk_181 0 19 (dk_at dksX3_next_2 0 rfl rfl)
theorem dX3_next_49 : decode cX3_next 49 = .ok (.goto (-49), 3) := dk_167 255 207 (dk_at dksX3_next_2 3 rfl rfl)
theorem dX3_next_52 : decode cX3_next 52 = .ok (.aload_n 0, 1) := dk_42 (dk_at dksX3_next_2 6 rfl rfl)
theorem dX3_next_53 : decode cX3_next 53 = .ok (.aload_n 0, 1) := dk_42 (dk_at dksX3_next_2 7 rfl rfl)
theorem dX3_next_54 : decode cX3_next 54 = .ok (.getfield 19, 3) := dk_180 0 19 (dk_at dksX3_next_2 8 rfl rfl)
theorem dX3_next_57 : decode cX3_next 57 = .ok (.putfield 22, 3) := dk_181 0 22 (dk_at dksX3_next_2 11 rfl rfl)
theorem dX3_next_60 : decode cX3_next 60 = .ok (.aload_n 0, 1) := dk_42 (dk_at dksX3_next_2 14 rfl rfl)
theorem dX3_next_61 : decode cX3_next 61 = .ok (.getfield 19, 3) := dk_180 0 19 (dk_at dksX3_next_2 15 rfl rfl)
theorem dX3_next_64 : decode cX3_next 64 = .ok (.aload_n 0, 1) := dk_42 (dk_at dksX3_next_2 18 rfl rfl)
theorem dX3_next_65 : decode cX3_next 65 = .ok (.getfield 15, 3) := dk_180 0 15 (dk_at dksX3_next_2 19 rfl rfl)
theorem dX3_next_68 : decode cX3_next 68 = .ok (.if_icmp .ne 13, 3) := dk_160 0 13 (dk_at dksX3_next_3 0 rfl rfl)
theorem dX3_next_71 : decode cX3_next 71 = .ok (.aload_n 0, 1) := dk_42 (dk_at dksX3_next_3 3 rfl rfl)
theorem dX3_next_72 : decode cX3_next 72 = .ok (.sipush 301, 3) := dk_17 1 45 (dk_at dksX3_next_3 4 rfl rfl)
theorem dX3_next_75 : decode cX3_next 75 = .ok (.putfield 25, 3) := dk_181 0 25 (dk_at dksX3_next_3 7 rfl rfl)
theorem dX3_next_78 : decode cX3_next 78 = .ok (.goto 324, 3) := dk_167 1 68 (dk_at dksX3_next_3 10 rfl rfl)
theorem dX3_next_81 : decode cX3_next 81 = .ok (.aload_n 0, 1) := dk_42 (dk_at dksX3_next_3 13 rfl rfl)
theorem dX3_next_82 : decode cX3_next 82 = .ok (.getfield 9, 3) := dk_180 0 9 (dk_at dksX3_next_3 14 rfl rfl)
theorem dX3_next_85 : decode cX3_next 85 = .ok (.aload_n 0, 1) := dk_42 (dk_at dksX3_next_3 17 rfl rfl)
theorem dX3_next_86 : decode cX3_next 86 = .ok (.getfield 19, 3) := dk_180 0 19 (dk_at dksX3_next_3 18 rfl rfl)
theorem dX3_next_89 : decode cX3_next 89 = .ok (.baload, 1) := dk_51 (dk_at dksX3_next_3 21 rfl rfl)
theorem dX3_next_90 : decode cX3_next 90 = .ok (.invokestatic 28, 3) := dk_184 0 28 (dk_at dksX3_next_4 0 rfl rfl)
theorem dX3_next_93 : decode cX3_next 93 = .ok (.ifCond .eq 89, 3) := dk_153 0 89 (dk_at dksX3_next_4 3 rfl rfl)
theorem dX3_next_96 : decode cX3_next 96 = .ok (.aload_n 0, 1) := dk_42 (dk_at dksX3_next_4 6 rfl rfl)
theorem dX3_next_97 : decode cX3_next 97 = .ok (.getfield 19, 3) := dk_180 0 19 (dk_at dksX3_next_4 7 rfl rfl)
theorem dX3_next_100 : decode cX3_next 100 = .ok (.aload_n 0, 1) := dk_42 (dk_at dksX3_next_4 10 rfl rfl)
theorem dX3_next_101 : decode cX3_next 101 = .ok (.getfield 15, 3) := dk_180 0 15 (dk_at dksX3_next_4 11 rfl rfl)
theorem dX3_next_104 : decode cX3_next 104 = .ok (.if_icmp .ge 31, 3) := dk_162 0 31 (dk_at dksX3_next_4 14 rfl rfl)
theorem dX3_next_107 : decode cX3_next 107 = .ok (.aload_n 0, 1) := dk_42 (dk_at dksX3_next_4 17 rfl rfl)
theorem dX3_next_108 : decode cX3_next 108 = .ok (.getfield 9, 3) := dk_180 0 9 (dk_at dksX3_next_4 18 rfl rfl)
theorem dX3_next_111 : decode cX3_next 111 = .ok (.aload_n 0, 1) := dk_42 (dk_at dksX3_next_4 21 rfl rfl)
theorem dX3_next_112 : decode cX3_next 112 = .ok (.getfield 19, 3) := dk_180 0 19 (dk_at dksX3_next_5 0 rfl rfl)
theorem dX3_next_115 : decode cX3_next 115 = .ok (.baload, 1) := dk_51 (dk_at dksX3_next_5 3 rfl rfl)
theorem dX3_next_116 : decode cX3_next 116 = .ok (.invokestatic 28, 3) := dk_184 0 28 (dk_at dksX3_next_5 4 rfl rfl)
theorem dX3_next_119 : decode cX3_next 119 = .ok (.ifCond .eq 16, 3) := dk_153 0 16 (dk_at dksX3_next_5 7 rfl rfl)
theorem dX3_next_122 : decode cX3_next 122 = .ok (.aload_n 0, 1) := dk_42 (dk_at dksX3_next_5 10 rfl rfl)
theorem dX3_next_123 : decode cX3_next 123 = .ok (.dup, 1) := dk_89 (dk_at dksX3_next_5 11 rfl rfl)
theorem dX3_next_124 : decode cX3_next 124 = .ok (.getfield 19, 3) := dk_180 0 19 (dk_at dksX3_next_5 12 rfl rfl)
theorem dX3_next_127 : decode cX3_next 127 = .ok (.iconst 1, 1) := dk_4 (dk_at dksX3_next_5 15 rfl rfl)
theorem dX3_next_128 : decode cX3_next 128 = .ok (.iadd, 1) := dk_96 (dk_at dksX3_next_5 16 rfl rfl)
theorem dX3_next_129 : decode cX3_next 129 = .ok (.putfield 19, 3) := dk_181 0 19 (dk_at dksX3_next_5 17 rfl rfl)
theorem dX3_next_132 : decode cX3_next 132 = .ok (.goto (-36), 3) := dk_167 255 220 (dk_at dksX3_next_5 20 rfl rfl)
theorem dX3_next_135 : decode cX3_next 135 = .ok (.aload_n 0, 1) := dk_42 (dk_at dksX3_next_5 23 rfl rfl)
theorem dX3_next_136 : decode cX3_next 136 = .ok (.sipush 302, 3) := dk_17 1 46 (dk_at dksX3_next_6 0 rfl rfl)
theorem dX3_next_139 : decode cX3_next 139 = .ok (.putfield 25, 3) := dk_181 0 25 (dk_at dksX3_next_6 3 rfl rfl)
theorem dX3_next_142 : decode cX3_next 142 = .ok (.iconst 0, 1) := dk_3 (dk_at dksX3_next_6 6 rfl rfl)
theorem dX3_next_143 : decode cX3_next 143 = .ok (.istore_n 1, 1) := dk_60 (dk_at dksX3_next_6 7 rfl rfl)
theorem dX3_next_144 : decode cX3_next 144 = .ok (.iload_n 1, 1) := dk_27 (dk_at dksX3_next_6 8 rfl rfl)
theorem dX3_next_145 : decode cX3_next 145 = .ok (.getstatic 32, 3) := dk_178 0 32 (dk_at dksX3_next_6 9 rfl rfl)
theorem dX3_next_148 : decode cX3_next 148 = .ok (.arraylength, 1) := dk_190 (dk_at dksX3_next_6 12 rfl rfl)
theorem dX3_next_149 : decode cX3_next 149 = .ok (.if_icmp .ge 30, 3) := dk_162 0 30 (dk_at dksX3_next_6 13 rfl rfl)
theorem dX3_next_152 : decode cX3_next 152 = .ok (.aload_n 0, 1) := dk_42 (dk_at dksX3_next_6 16 rfl rfl)
theorem dX3_next_153 : decode cX3_next 153 = .ok (.getstatic 32, 3) := dk_178 0 32 (dk_at dksX3_next_6 17 rfl rfl)
theorem dX3_next_156 : decode cX3_next 156 = .ok (.iload_n 1, 1) := dk_27 (dk_at dksX3_next_6 20 rfl rfl)
theorem dX3_next_157 : decode cX3_next 157 = .ok (.aaload, 1) := dk_50 (dk_at dksX3_next_6 21 rfl rfl)
theorem dX3_next_158 : decode cX3_next 158 = .ok (.invokevirtual 36, 3) := dk_182 0 36 (dk_at dksX3_next_7 0 rfl rfl)
theorem dX3_next_161 : decode cX3_next 161 = .ok (.ifCond .eq 12, 3) := dk_153 0 12 (dk_at dksX3_next_7 3 rfl rfl)
theorem dX3_next_164 : decode cX3_next 164 = .ok (.aload_n 0, 1) := dk_42 (dk_at dksX3_next_7 6 rfl rfl)
theorem dX3_next_165 : decode cX3_next 165 = .ok (.sipush 200, 3) := dk_17 0 200 (dk_at dksX3_next_7 7 rfl rfl)
theorem dX3_next_168 : decode cX3_next 168 = .ok (.iload_n 1, 1) := dk_27 (dk_at dksX3_next_7 10 rfl rfl)
theorem dX3_next_169 : decode cX3_next 169 = .ok (.iadd, 1) := dk_96 (dk_at dksX3_next_7 11 rfl rfl)
theorem dX3_next_170 : decode cX3_next 170 = .ok (.putfield 25, 3) := dk_181 0 25 (dk_at dksX3_next_7 12 rfl rfl)
theorem dX3_next_173 : decode cX3_next 173 = .ok (.iinc 1 1, 3) := dk_132 1 1 (dk_at dksX3_next_7 15 rfl rfl)
theorem dX3_next_176 : decode cX3_next 176 = .ok (.goto (-32), 3) := dk_167 255 224 (dk_at dksX3_next_7 18 rfl rfl)
theorem dX3_next_179 : decode cX3_next 179 = .ok (.goto 223, 3) := dk_167 0 223 (dk_at dksX3_next_7 21 rfl rfl)
theorem dX3_next_182 : decode cX3_next 182 = .ok (.aload_n 0, 1) := dk_42 (dk_at dksX3_next_8 0 rfl rfl)
theorem dX3_next_183 : decode cX3_next 183 = .ok (.getfield 9, 3) := dk_180 0 9 (dk_at dksX3_next_8 1 rfl rfl)
theorem dX3_next_186 : decode cX3_next 186 = .ok (.aload_n 0, 1) := dk_42 (dk_at dksX3_next_8 4 rfl rfl)
theorem dX3_next_187 : decode cX3_next 187 = .ok (.getfield 19, 3) := dk_180 0 19 (dk_at dksX3_next_8 5 rfl rfl)
theorem dX3_next_190 : decode cX3_next 190 = .ok (.baload, 1) := dk_51 (dk_at dksX3_next_8 8 rfl rfl)
theorem dX3_next_191 : decode cX3_next 191 = .ok (.invokestatic 40, 3) := dk_184 0 40 (dk_at dksX3_next_8 9 rfl rfl)
theorem dX3_next_194 : decode cX3_next 194 = .ok (.ifCond .eq 83, 3) := dk_153 0 83 (dk_at dksX3_next_8 12 rfl rfl)
theorem dX3_next_197 : decode cX3_next 197 = .ok (.aload_n 0, 1) := dk_42 (dk_at dksX3_next_8 15 rfl rfl)
theorem dX3_next_198 : decode cX3_next 198 = .ok (.sipush 300, 3) := dk_17 1 44 (dk_at dksX3_next_8 16 rfl rfl)
theorem dX3_next_201 : decode cX3_next 201 = .ok (.putfield 25, 3) := dk_181 0 25 (dk_at dksX3_next_8 19 rfl rfl)
theorem dX3_next_204 : decode cX3_next 204 = .ok (.aload_n 0, 1) := dk_42 (dk_at dksX3_next_8 22 rfl rfl)
theorem dX3_next_205 : decode cX3_next 205 = .ok (.iconst 0, 1) := dk_3 (dk_at dksX3_next_8 23 rfl rfl)
theorem dX3_next_206 : decode cX3_next 206 = .ok (.putfield 43, 3) := dk_181 0 43 (dk_at dksX3_next_9 0 rfl rfl)
theorem dX3_next_209 : decode cX3_next 209 = .ok (.aload_n 0, 1) := dk_42 (dk_at dksX3_next_9 3 rfl rfl)
theorem dX3_next_210 : decode cX3_next 210 = .ok (.getfield 19, 3) := dk_180 0 19 (dk_at dksX3_next_9 4 rfl rfl)
theorem dX3_next_213 : decode cX3_next 213 = .ok (.aload_n 0, 1) := dk_42 (dk_at dksX3_next_9 7 rfl rfl)
theorem dX3_next_214 : decode cX3_next 214 = .ok (.getfield 15, 3) := dk_180 0 15 (dk_at dksX3_next_9 8 rfl rfl)
theorem dX3_next_217 : decode cX3_next 217 = .ok (.if_icmp .ge 185, 3) := dk_162 0 185 (dk_at dksX3_next_9 11 rfl rfl)
theorem dX3_next_220 : decode cX3_next 220 = .ok (.aload_n 0, 1) := dk_42 (dk_at dksX3_next_9 14 rfl rfl)
theorem dX3_next_221 : decode cX3_next 221 = .ok (.getfield 9, 3) := dk_180 0 9 (dk_at dksX3_next_9 15 rfl rfl)
theorem dX3_next_224 : decode cX3_next 224 = .ok (.aload_n 0, 1) := dk_42 (dk_at dksX3_next_9 18 rfl rfl)
theorem dX3_next_225 : decode cX3_next 225 = .ok (.getfield 19, 3) := dk_180 0 19 (dk_at dksX3_next_9 19 rfl rfl)
theorem dX3_next_228 : decode cX3_next 228 = .ok (.baload, 1) := dk_51 (dk_at dksX3_next_9 22 rfl rfl)
theorem dX3_next_229 : decode cX3_next 229 = .ok (.invokestatic 40, 3) := dk_184 0 40 (dk_at dksX3_next_10 0 rfl rfl)
theorem dX3_next_232 : decode cX3_next 232 = .ok (.ifCond .eq 170, 3) := dk_153 0 170 (dk_at dksX3_next_10 3 rfl rfl)
theorem dX3_next_235 : decode cX3_next 235 = .ok (.aload_n 0, 1) := dk_42 (dk_at dksX3_next_10 6 rfl rfl)
theorem dX3_next_236 : decode cX3_next 236 = .ok (.ldc 46, 2) := dk_18 46 (dk_at dksX3_next_10 7 rfl rfl)
theorem dX3_next_238 : decode cX3_next 238 = .ok (.bipush 10, 2) := dk_16 10 (dk_at dksX3_next_10 9 rfl rfl)
theorem dX3_next_240 : decode cX3_next 240 = .ok (.aload_n 0, 1) := dk_42 (dk_at dksX3_next_10 11 rfl rfl)
theorem dX3_next_241 : decode cX3_next 241 = .ok (.getfield 43, 3) := dk_180 0 43 (dk_at dksX3_next_10 12 rfl rfl)
theorem dX3_next_244 : decode cX3_next 244 = .ok (.imul, 1) := dk_104 (dk_at dksX3_next_10 15 rfl rfl)
theorem dX3_next_245 : decode cX3_next 245 = .ok (.aload_n 0, 1) := dk_42 (dk_at dksX3_next_10 16 rfl rfl)
theorem dX3_next_246 : decode cX3_next 246 = .ok (.getfield 9, 3) := dk_180 0 9 (dk_at dksX3_next_10 17 rfl rfl)
theorem dX3_next_249 : decode cX3_next 249 = .ok (.aload_n 0, 1) := dk_42 (dk_at dksX3_next_10 20 rfl rfl)
theorem dX3_next_250 : decode cX3_next 250 = .ok (.getfield 19, 3) := dk_180 0 19 (dk_at dksX3_next_10 21 rfl rfl)
theorem dX3_next_253 : decode cX3_next 253 = .ok (.baload, 1) := dk_51 (dk_at dksX3_next_11 0 rfl rfl)
theorem dX3_next_254 : decode cX3_next 254 = .ok (.iadd, 1) := dk_96 (dk_at dksX3_next_11 1 rfl rfl)
theorem dX3_next_255 : decode cX3_next 255 = .ok (.bipush 48, 2) := dk_16 48 (dk_at dksX3_next_11 2 rfl rfl)
theorem dX3_next_257 : decode cX3_next 257 = .ok (.isub, 1) := dk_100 (dk_at dksX3_next_11 4 rfl rfl)
theorem dX3_next_258 : decode cX3_next 258 = .ok (.invokestatic 47, 3) := dk_184 0 47 (dk_at dksX3_next_11 5 rfl rfl)
theorem dX3_next_261 : decode cX3_next 261 = .ok (.putfield 43, 3) := dk_181 0 43 (dk_at dksX3_next_11 8 rfl rfl)
theorem dX3_next_264 : decode cX3_next 264 = .ok (.aload_n 0, 1) := dk_42 (dk_at dksX3_next_11 11 rfl rfl)
theorem dX3_next_265 : decode cX3_next 265 = .ok (.dup, 1) := dk_89 (dk_at dksX3_next_11 12 rfl rfl)
theorem dX3_next_266 : decode cX3_next 266 = .ok (.getfield 19, 3) := dk_180 0 19 (dk_at dksX3_next_11 13 rfl rfl)
theorem dX3_next_269 : decode cX3_next 269 = .ok (.iconst 1, 1) := dk_4 (dk_at dksX3_next_11 16 rfl rfl)
theorem dX3_next_270 : decode cX3_next 270 = .ok (.iadd, 1) := dk_96 (dk_at dksX3_next_11 17 rfl rfl)
theorem dX3_next_271 : decode cX3_next 271 = .ok (.putfield 19, 3) := dk_181 0 19 (dk_at dksX3_next_11 18 rfl rfl)
theorem dX3_next_274 : decode cX3_next 274 = .ok (.goto (-65), 3) := dk_167 255 191 (dk_at dksX3_next_11 21 rfl rfl)
theorem dX3_next_277 : decode cX3_next 277 = .ok (.aload_n 0, 1) := dk_42 (dk_at dksX3_next_12 0 rfl rfl)
theorem dX3_next_278 : decode cX3_next 278 = .ok (.getfield 9, 3) := dk_180 0 9 (dk_at dksX3_next_12 1 rfl rfl)
theorem dX3_next_281 : decode cX3_next 281 = .ok (.aload_n 0, 1) := dk_42 (dk_at dksX3_next_12 4 rfl rfl)
theorem dX3_next_282 : decode cX3_next 282 = .ok (.getfield 19, 3) := dk_180 0 19 (dk_at dksX3_next_12 5 rfl rfl)
theorem dX3_next_285 : decode cX3_next 285 = .ok (.baload, 1) := dk_51 (dk_at dksX3_next_12 8 rfl rfl)
theorem dX3_next_286 : decode cX3_next 286 = .ok (.istore_n 1, 1) := dk_60 (dk_at dksX3_next_12 9 rfl rfl)
theorem dX3_next_287 : decode cX3_next 287 = .ok (.aload_n 0, 1) := dk_42 (dk_at dksX3_next_12 10 rfl rfl)
theorem dX3_next_288 : decode cX3_next 288 = .ok (.dup, 1) := dk_89 (dk_at dksX3_next_12 11 rfl rfl)
theorem dX3_next_289 : decode cX3_next 289 = .ok (.getfield 19, 3) := dk_180 0 19 (dk_at dksX3_next_12 12 rfl rfl)
theorem dX3_next_292 : decode cX3_next 292 = .ok (.iconst 1, 1) := dk_4 (dk_at dksX3_next_12 15 rfl rfl)
theorem dX3_next_293 : decode cX3_next 293 = .ok (.iadd, 1) := dk_96 (dk_at dksX3_next_12 16 rfl rfl)
theorem dX3_next_294 : decode cX3_next 294 = .ok (.putfield 19, 3) := dk_181 0 19 (dk_at dksX3_next_12 17 rfl rfl)
theorem dX3_next_297 : decode cX3_next 297 = .ok (.aload_n 0, 1) := dk_42 (dk_at dksX3_next_12 20 rfl rfl)
theorem dX3_next_298 : decode cX3_next 298 = .ok (.sipush 302, 3) := dk_17 1 46 (dk_at dksX3_next_12 21 rfl rfl)
theorem dX3_next_301 : decode cX3_next 301 = .ok (.putfield 25, 3) := dk_181 0 25 (dk_at dksX3_next_13 0 rfl rfl)
theorem dX3_next_304 : decode cX3_next 304 = .ok (.iconst 0, 1) := dk_3 (dk_at dksX3_next_13 3 rfl rfl)
theorem dX3_next_305 : decode cX3_next 305 = .ok (.istore_n 2, 1) := dk_61 (dk_at dksX3_next_13 4 rfl rfl)
theorem dX3_next_306 : decode cX3_next 306 = .ok (.iload_n 2, 1) := dk_28 (dk_at dksX3_next_13 5 rfl rfl)
theorem dX3_next_307 : decode cX3_next 307 = .ok (.ldc 53, 2) := dk_18 53 (dk_at dksX3_next_13 6 rfl rfl)
theorem dX3_next_309 : decode cX3_next 309 = .ok (.invokevirtual 55, 3) := dk_182 0 55 (dk_at dksX3_next_13 8 rfl rfl)
theorem dX3_next_312 : decode cX3_next 312 = .ok (.if_icmp .ge 24, 3) := dk_162 0 24 (dk_at dksX3_next_13 11 rfl rfl)
theorem dX3_next_315 : decode cX3_next 315 = .ok (.ldc 53, 2) := dk_18 53 (dk_at dksX3_next_13 14 rfl rfl)
theorem dX3_next_317 : decode cX3_next 317 = .ok (.iload_n 2, 1) := dk_28 (dk_at dksX3_next_13 16 rfl rfl)
theorem dX3_next_318 : decode cX3_next 318 = .ok (.invokevirtual 61, 3) := dk_182 0 61 (dk_at dksX3_next_13 17 rfl rfl)
theorem dX3_next_321 : decode cX3_next 321 = .ok (.iload_n 1, 1) := dk_27 (dk_at dksX3_next_13 20 rfl rfl)
theorem dX3_next_322 : decode cX3_next 322 = .ok (.if_icmp .ne 8, 3) := dk_160 0 8 (dk_at dksX3_next_13 21 rfl rfl)
theorem dX3_next_325 : decode cX3_next 325 = .ok (.aload_n 0, 1) := dk_42 (dk_at dksX3_next_14 0 rfl rfl)
theorem dX3_next_326 : decode cX3_next 326 = .ok (.iload_n 1, 1) := dk_27 (dk_at dksX3_next_14 1 rfl rfl)
theorem dX3_next_327 : decode cX3_next 327 = .ok (.putfield 25, 3) := dk_181 0 25 (dk_at dksX3_next_14 2 rfl rfl)
theorem dX3_next_330 : decode cX3_next 330 = .ok (.iinc 2 1, 3) := dk_132 2 1 (dk_at dksX3_next_14 5 rfl rfl)
theorem dX3_next_333 : decode cX3_next 333 = .ok (.goto (-27), 3) := dk_167 255 229 (dk_at dksX3_next_14 8 rfl rfl)
theorem dX3_next_336 : decode cX3_next 336 = .ok (.iload_n 1, 1) := dk_27 (dk_at dksX3_next_14 11 rfl rfl)
theorem dX3_next_337 : decode cX3_next 337 = .ok (.bipush 60, 2) := dk_16 60 (dk_at dksX3_next_14 12 rfl rfl)
theorem dX3_next_339 : decode cX3_next 339 = .ok (.if_icmp .eq 9, 3) := dk_159 0 9 (dk_at dksX3_next_14 14 rfl rfl)
theorem dX3_next_342 : decode cX3_next 342 = .ok (.iload_n 1, 1) := dk_27 (dk_at dksX3_next_14 17 rfl rfl)
theorem dX3_next_343 : decode cX3_next 343 = .ok (.bipush 62, 2) := dk_16 62 (dk_at dksX3_next_14 18 rfl rfl)
theorem dX3_next_345 : decode cX3_next 345 = .ok (.if_icmp .ne 57, 3) := dk_160 0 57 (dk_at dksX3_next_14 20 rfl rfl)
theorem dX3_next_348 : decode cX3_next 348 = .ok (.aload_n 0, 1) := dk_42 (dk_at dksX3_next_14 23 rfl rfl)
theorem dX3_next_349 : decode cX3_next 349 = .ok (.getfield 19, 3) := dk_180 0 19 (dk_at dksX3_next_15 0 rfl rfl)
theorem dX3_next_352 : decode cX3_next 352 = .ok (.aload_n 0, 1) := dk_42 (dk_at dksX3_next_15 3 rfl rfl)
theorem dX3_next_353 : decode cX3_next 353 = .ok (.getfield 15, 3) := dk_180 0 15 (dk_at dksX3_next_15 4 rfl rfl)
theorem dX3_next_356 : decode cX3_next 356 = .ok (.if_icmp .ge 46, 3) := dk_162 0 46 (dk_at dksX3_next_15 7 rfl rfl)
theorem dX3_next_359 : decode cX3_next 359 = .ok (.aload_n 0, 1) := dk_42 (dk_at dksX3_next_15 10 rfl rfl)
theorem dX3_next_360 : decode cX3_next 360 = .ok (.getfield 9, 3) := dk_180 0 9 (dk_at dksX3_next_15 11 rfl rfl)
theorem dX3_next_363 : decode cX3_next 363 = .ok (.aload_n 0, 1) := dk_42 (dk_at dksX3_next_15 14 rfl rfl)
theorem dX3_next_364 : decode cX3_next 364 = .ok (.getfield 19, 3) := dk_180 0 19 (dk_at dksX3_next_15 15 rfl rfl)
theorem dX3_next_367 : decode cX3_next 367 = .ok (.baload, 1) := dk_51 (dk_at dksX3_next_15 18 rfl rfl)
theorem dX3_next_368 : decode cX3_next 368 = .ok (.bipush 61, 2) := dk_16 61 (dk_at dksX3_next_15 19 rfl rfl)
theorem dX3_next_370 : decode cX3_next 370 = .ok (.if_icmp .ne 32, 3) := dk_160 0 32 (dk_at dksX3_next_15 21 rfl rfl)
theorem dX3_next_373 : decode cX3_next 373 = .ok (.aload_n 0, 1) := dk_42 (dk_at dksX3_next_16 0 rfl rfl)
theorem dX3_next_374 : decode cX3_next 374 = .ok (.iload_n 1, 1) := dk_27 (dk_at dksX3_next_16 1 rfl rfl)
theorem dX3_next_375 : decode cX3_next 375 = .ok (.bipush 60, 2) := dk_16 60 (dk_at dksX3_next_16 2 rfl rfl)
theorem dX3_next_377 : decode cX3_next 377 = .ok (.if_icmp .ne 9, 3) := dk_160 0 9 (dk_at dksX3_next_16 4 rfl rfl)
theorem dX3_next_380 : decode cX3_next 380 = .ok (.sipush 303, 3) := dk_17 1 47 (dk_at dksX3_next_16 7 rfl rfl)
theorem dX3_next_383 : decode cX3_next 383 = .ok (.goto 6, 3) := dk_167 0 6 (dk_at dksX3_next_16 10 rfl rfl)
theorem dX3_next_386 : decode cX3_next 386 = .ok (.sipush 304, 3) := dk_17 1 48 (dk_at dksX3_next_16 13 rfl rfl)
theorem dX3_next_389 : decode cX3_next 389 = .ok (.putfield 25, 3) := dk_181 0 25 (dk_at dksX3_next_16 16 rfl rfl)
theorem dX3_next_392 : decode cX3_next 392 = .ok (.aload_n 0, 1) := dk_42 (dk_at dksX3_next_16 19 rfl rfl)
theorem dX3_next_393 : decode cX3_next 393 = .ok (.dup, 1) := dk_89 (dk_at dksX3_next_16 20 rfl rfl)
theorem dX3_next_394 : decode cX3_next 394 = .ok (.getfield 19, 3) := dk_180 0 19 (dk_at dksX3_next_16 21 rfl rfl)
theorem dX3_next_397 : decode cX3_next 397 = .ok (.iconst 1, 1) := dk_4 (dk_at dksX3_next_17 0 rfl rfl)
theorem dX3_next_398 : decode cX3_next 398 = .ok (.iadd, 1) := dk_96 (dk_at dksX3_next_17 1 rfl rfl)
theorem dX3_next_399 : decode cX3_next 399 = .ok (.putfield 19, 3) := dk_181 0 19 (dk_at dksX3_next_17 2 rfl rfl)
theorem dX3_next_402 : decode cX3_next 402 = .ok (.return_, 1) := dk_177 (dk_at dksX3_next_17 5 rfl rfl)
abbrev MX3_next : jjM := (yX3_next, cX3_next, 3, (Option.none : Option Jvm.ClassFile.FieldType))
theorem npX3_next : yX3_next.cls ≠ "java/lang/invoke/MethodHandle" ∧ yX3_next.cls ≠ "java/lang/invoke/VarHandle" ∧ (parseMethodDescriptor yX3_next.desc).map (fun d => d.parameters.length) = some 0 := by decide +kernel
abbrev cX3_isLetter : ByteArray := prog_14_method_2_code
def yX3_isLetter : MethodName := ⟨RX3, "isLetter", "(I)Z"⟩
def dkwX3_isLetter_1 : List UInt8 := [4, 167, 0, 4, 3, 172]
abbrev dktX3_isLetter_1 : List UInt8 := dkwX3_isLetter_1 ++ []
def dkwX3_isLetter_0 : List UInt8 := [26, 16, 97, 161, 0, 9, 26, 16, 122, 164, 0, 15, 26, 16, 65, 161, 0, 13, 26, 16, 90, 163, 0, 7]
abbrev dktX3_isLetter_0 : List UInt8 := dkwX3_isLetter_0 ++ dktX3_isLetter_1
theorem dksX3_isLetter_0 : cX3_isLetter.data.toList.drop 0 = dktX3_isLetter_0 := by decide +kernel
theorem dksX3_isLetter_1 : cX3_isLetter.data.toList.drop 24 = dktX3_isLetter_1 := dk_seg dksX3_isLetter_0 24 rfl rfl
theorem dX3_isLetter_0 : decode cX3_isLetter 0 = .ok (.iload_n 0, 1) := dk_26 (dk_at dksX3_isLetter_0 0 rfl rfl)
theorem dX3_isLetter_1 : decode cX3_isLetter 1 = .ok (.bipush 97, 2) := dk_16 97 (dk_at dksX3_isLetter_0 1 rfl rfl)
theorem dX3_isLetter_3 : decode cX3_isLetter 3 = .ok (.if_icmp .lt 9, 3) := dk_161 0 9 (dk_at dksX3_isLetter_0 3 rfl rfl)
theorem dX3_isLetter_6 : decode cX3_isLetter 6 = .ok (.iload_n 0, 1) := dk_26 (dk_at dksX3_isLetter_0 6 rfl rfl)
theorem dX3_isLetter_7 : decode cX3_isLetter 7 = .ok (.bipush 122, 2) := dk_16 122 (dk_at dksX3_isLetter_0 7 rfl rfl)
theorem dX3_isLetter_9 : decode cX3_isLetter 9 = .ok (.if_icmp .le 15, 3) := dk_164 0 15 (dk_at dksX3_isLetter_0 9 rfl rfl)
theorem dX3_isLetter_12 : decode cX3_isLetter 12 = .ok (.iload_n 0, 1) := dk_26 (dk_at dksX3_isLetter_0 12 rfl rfl)
theorem dX3_isLetter_13 : decode cX3_isLetter 13 = .ok (.bipush 65, 2) := dk_16 65 (dk_at dksX3_isLetter_0 13 rfl rfl)
theorem dX3_isLetter_15 : decode cX3_isLetter 15 = .ok (.if_icmp .lt 13, 3) := dk_161 0 13 (dk_at dksX3_isLetter_0 15 rfl rfl)
theorem dX3_isLetter_18 : decode cX3_isLetter 18 = .ok (.iload_n 0, 1) := dk_26 (dk_at dksX3_isLetter_0 18 rfl rfl)
theorem dX3_isLetter_19 : decode cX3_isLetter 19 = .ok (.bipush 90, 2) := dk_16 90 (dk_at dksX3_isLetter_0 19 rfl rfl)
theorem dX3_isLetter_21 : decode cX3_isLetter 21 = .ok (.if_icmp .gt 7, 3) := dk_163 0 7 (dk_at dksX3_isLetter_0 21 rfl rfl)
theorem dX3_isLetter_24 : decode cX3_isLetter 24 = .ok (.iconst 1, 1) := dk_4 (dk_at dksX3_isLetter_1 0 rfl rfl)
theorem dX3_isLetter_25 : decode cX3_isLetter 25 = .ok (.goto 4, 3) := dk_167 0 4 (dk_at dksX3_isLetter_1 1 rfl rfl)
theorem dX3_isLetter_28 : decode cX3_isLetter 28 = .ok (.iconst 0, 1) := dk_3 (dk_at dksX3_isLetter_1 4 rfl rfl)
theorem dX3_isLetter_29 : decode cX3_isLetter 29 = .ok (.ireturn, 1) := dk_172 (dk_at dksX3_isLetter_1 5 rfl rfl)
abbrev MX3_isLetter : jjM := (yX3_isLetter, cX3_isLetter, 1, (Option.some Jvm.ClassFile.FieldType.boolean))
theorem npX3_isLetter : yX3_isLetter.cls ≠ "java/lang/invoke/MethodHandle" ∧ yX3_isLetter.cls ≠ "java/lang/invoke/VarHandle" ∧ (parseMethodDescriptor yX3_isLetter.desc).map (fun d => d.parameters.length) = some 1 := by decide +kernel
abbrev cX3_isWord : ByteArray := prog_14_method_5_code
def yX3_isWord : MethodName := ⟨RX3, "isWord", "(Ljava/lang/String;)Z"⟩
def dkwX3_isWord_2 : List UInt8 := [159, 0, 5, 3, 172, 132, 2, 1, 167, 255, 224, 4, 172]
abbrev dktX3_isWord_2 : List UInt8 := dkwX3_isWord_2 ++ []
def dkwX3_isWord_1 : List UInt8 := [182, 0, 55, 162, 0, 30, 42, 180, 0, 9, 42, 180, 0, 22, 28, 96, 51, 43, 28, 182, 0, 61]
abbrev dktX3_isWord_1 : List UInt8 := dkwX3_isWord_1 ++ dktX3_isWord_2
def dkwX3_isWord_0 : List UInt8 := [42, 180, 0, 19, 42, 180, 0, 22, 100, 43, 182, 0, 55, 159, 0, 5, 3, 172, 3, 61, 28, 43]
abbrev dktX3_isWord_0 : List UInt8 := dkwX3_isWord_0 ++ dktX3_isWord_1
theorem dksX3_isWord_0 : cX3_isWord.data.toList.drop 0 = dktX3_isWord_0 := by decide +kernel
theorem dksX3_isWord_1 : cX3_isWord.data.toList.drop 22 = dktX3_isWord_1 := dk_seg dksX3_isWord_0 22 rfl rfl
theorem dksX3_isWord_2 : cX3_isWord.data.toList.drop 44 = dktX3_isWord_2 := dk_seg dksX3_isWord_1 22 rfl rfl
theorem dX3_isWord_0 : decode cX3_isWord 0 = .ok (.aload_n 0, 1) := dk_42 (dk_at dksX3_isWord_0 0 rfl rfl)
theorem dX3_isWord_1 : decode cX3_isWord 1 = .ok (.getfield 19, 3) := dk_180 0 19 (dk_at dksX3_isWord_0 1 rfl rfl)
theorem dX3_isWord_4 : decode cX3_isWord 4 = .ok (.aload_n 0, 1) := dk_42 (dk_at dksX3_isWord_0 4 rfl rfl)
theorem dX3_isWord_5 : decode cX3_isWord 5 = .ok (.getfield 22, 3) := dk_180 0 22 (dk_at dksX3_isWord_0 5 rfl rfl)
theorem dX3_isWord_8 : decode cX3_isWord 8 = .ok (.isub, 1) := dk_100 (dk_at dksX3_isWord_0 8 rfl rfl)
theorem dX3_isWord_9 : decode cX3_isWord 9 = .ok (.aload_n 1, 1) := dk_43 (dk_at dksX3_isWord_0 9 rfl rfl)
theorem dX3_isWord_10 : decode cX3_isWord 10 = .ok (.invokevirtual 55, 3) := dk_182 0 55 (dk_at dksX3_isWord_0 10 rfl rfl)
theorem dX3_isWord_13 : decode cX3_isWord 13 = .ok (.if_icmp .eq 5, 3) := dk_159 0 5 (dk_at dksX3_isWord_0 13 rfl rfl)
theorem dX3_isWord_16 : decode cX3_isWord 16 = .ok (.iconst 0, 1) := dk_3 (dk_at dksX3_isWord_0 16 rfl rfl)
theorem dX3_isWord_17 : decode cX3_isWord 17 = .ok (.ireturn, 1) := dk_172 (dk_at dksX3_isWord_0 17 rfl rfl)
theorem dX3_isWord_18 : decode cX3_isWord 18 = .ok (.iconst 0, 1) := dk_3 (dk_at dksX3_isWord_0 18 rfl rfl)
theorem dX3_isWord_19 : decode cX3_isWord 19 = .ok (.istore_n 2, 1) := dk_61 (dk_at dksX3_isWord_0 19 rfl rfl)
theorem dX3_isWord_20 : decode cX3_isWord 20 = .ok (.iload_n 2, 1) := dk_28 (dk_at dksX3_isWord_0 20 rfl rfl)
theorem dX3_isWord_21 : decode cX3_isWord 21 = .ok (.aload_n 1, 1) := dk_43 (dk_at dksX3_isWord_0 21 rfl rfl)
theorem dX3_isWord_22 : decode cX3_isWord 22 = .ok (.invokevirtual 55, 3) := dk_182 0 55 (dk_at dksX3_isWord_1 0 rfl rfl)
theorem dX3_isWord_25 : decode cX3_isWord 25 = .ok (.if_icmp .ge 30, 3) := dk_162 0 30 (dk_at dksX3_isWord_1 3 rfl rfl)
theorem dX3_isWord_28 : decode cX3_isWord 28 = .ok (.aload_n 0, 1) := dk_42 (dk_at dksX3_isWord_1 6 rfl rfl)
theorem dX3_isWord_29 : decode cX3_isWord 29 = .ok (.getfield 9, 3) := dk_180 0 9 (dk_at dksX3_isWord_1 7 rfl rfl)
theorem dX3_isWord_32 : decode cX3_isWord 32 = .ok (.aload_n 0, 1) := dk_42 (dk_at dksX3_isWord_1 10 rfl rfl)
theorem dX3_isWord_33 : decode cX3_isWord 33 = .ok (.getfield 22, 3) := dk_180 0 22 (dk_at dksX3_isWord_1 11 rfl rfl)
theorem dX3_isWord_36 : decode cX3_isWord 36 = .ok (.iload_n 2, 1) := dk_28 (dk_at dksX3_isWord_1 14 rfl rfl)
theorem dX3_isWord_37 : decode cX3_isWord 37 = .ok (.iadd, 1) := dk_96 (dk_at dksX3_isWord_1 15 rfl rfl)
theorem dX3_isWord_38 : decode cX3_isWord 38 = .ok (.baload, 1) := dk_51 (dk_at dksX3_isWord_1 16 rfl rfl)
theorem dX3_isWord_39 : decode cX3_isWord 39 = .ok (.aload_n 1, 1) := dk_43 (dk_at dksX3_isWord_1 17 rfl rfl)
theorem dX3_isWord_40 : decode cX3_isWord 40 = .ok (.iload_n 2, 1) := dk_28 (dk_at dksX3_isWord_1 18 rfl rfl)
theorem dX3_isWord_41 : decode cX3_isWord 41 = .ok (.invokevirtual 61, 3) := dk_182 0 61 (dk_at dksX3_isWord_1 19 rfl rfl)
theorem dX3_isWord_44 : decode cX3_isWord 44 = .ok (.if_icmp .eq 5, 3) := dk_159 0 5 (dk_at dksX3_isWord_2 0 rfl rfl)
theorem dX3_isWord_47 : decode cX3_isWord 47 = .ok (.iconst 0, 1) := dk_3 (dk_at dksX3_isWord_2 3 rfl rfl)
theorem dX3_isWord_48 : decode cX3_isWord 48 = .ok (.ireturn, 1) := dk_172 (dk_at dksX3_isWord_2 4 rfl rfl)
theorem dX3_isWord_49 : decode cX3_isWord 49 = .ok (.iinc 2 1, 3) := dk_132 2 1 (dk_at dksX3_isWord_2 5 rfl rfl)
theorem dX3_isWord_52 : decode cX3_isWord 52 = .ok (.goto (-32), 3) := dk_167 255 224 (dk_at dksX3_isWord_2 8 rfl rfl)
theorem dX3_isWord_55 : decode cX3_isWord 55 = .ok (.iconst 1, 1) := dk_4 (dk_at dksX3_isWord_2 11 rfl rfl)
theorem dX3_isWord_56 : decode cX3_isWord 56 = .ok (.ireturn, 1) := dk_172 (dk_at dksX3_isWord_2 12 rfl rfl)
abbrev MX3_isWord : jjM := (yX3_isWord, cX3_isWord, 3, (Option.some Jvm.ClassFile.FieldType.boolean))
theorem npX3_isWord : yX3_isWord.cls ≠ "java/lang/invoke/MethodHandle" ∧ yX3_isWord.cls ≠ "java/lang/invoke/VarHandle" ∧ (parseMethodDescriptor yX3_isWord.desc).map (fun d => d.parameters.length) = some 1 := by decide +kernel
abbrev cX3_isDigit : ByteArray := prog_14_method_3_code
def yX3_isDigit : MethodName := ⟨RX3, "isDigit", "(I)Z"⟩
def dkwX3_isDigit_0 : List UInt8 := [26, 16, 48, 161, 0, 13, 26, 16, 57, 163, 0, 7, 4, 167, 0, 4, 3, 172]
abbrev dktX3_isDigit_0 : List UInt8 := dkwX3_isDigit_0 ++ []
theorem dksX3_isDigit_0 : cX3_isDigit.data.toList.drop 0 = dktX3_isDigit_0 := by decide +kernel
theorem dX3_isDigit_0 : decode cX3_isDigit 0 = .ok (.iload_n 0, 1) := dk_26 (dk_at dksX3_isDigit_0 0 rfl rfl)
theorem dX3_isDigit_1 : decode cX3_isDigit 1 = .ok (.bipush 48, 2) := dk_16 48 (dk_at dksX3_isDigit_0 1 rfl rfl)
theorem dX3_isDigit_3 : decode cX3_isDigit 3 = .ok (.if_icmp .lt 13, 3) := dk_161 0 13 (dk_at dksX3_isDigit_0 3 rfl rfl)
theorem dX3_isDigit_6 : decode cX3_isDigit 6 = .ok (.iload_n 0, 1) := dk_26 (dk_at dksX3_isDigit_0 6 rfl rfl)
theorem dX3_isDigit_7 : decode cX3_isDigit 7 = .ok (.bipush 57, 2) := dk_16 57 (dk_at dksX3_isDigit_0 7 rfl rfl)
theorem dX3_isDigit_9 : decode cX3_isDigit 9 = .ok (.if_icmp .gt 7, 3) := dk_163 0 7 (dk_at dksX3_isDigit_0 9 rfl rfl)
theorem dX3_isDigit_12 : decode cX3_isDigit 12 = .ok (.iconst 1, 1) := dk_4 (dk_at dksX3_isDigit_0 12 rfl rfl)
theorem dX3_isDigit_13 : decode cX3_isDigit 13 = .ok (.goto 4, 3) := dk_167 0 4 (dk_at dksX3_isDigit_0 13 rfl rfl)
theorem dX3_isDigit_16 : decode cX3_isDigit 16 = .ok (.iconst 0, 1) := dk_3 (dk_at dksX3_isDigit_0 16 rfl rfl)
theorem dX3_isDigit_17 : decode cX3_isDigit 17 = .ok (.ireturn, 1) := dk_172 (dk_at dksX3_isDigit_0 17 rfl rfl)
abbrev MX3_isDigit : jjM := (yX3_isDigit, cX3_isDigit, 1, (Option.some Jvm.ClassFile.FieldType.boolean))
theorem npX3_isDigit : yX3_isDigit.cls ≠ "java/lang/invoke/MethodHandle" ∧ yX3_isDigit.cls ≠ "java/lang/invoke/VarHandle" ∧ (parseMethodDescriptor yX3_isDigit.desc).map (fun d => d.parameters.length) = some 1 := by decide +kernel
abbrev cX3_wrong : ByteArray := prog_14_method_6_code
def yX3_wrong : MethodName := ⟨RX3, "wrong", "(I)LSelfSorting$Wrong;"⟩
def dkwX3_wrong_0 : List UInt8 := [187, 0, 65, 89, 27, 42, 180, 0, 22, 183, 0, 67, 176]
abbrev dktX3_wrong_0 : List UInt8 := dkwX3_wrong_0 ++ []
theorem dksX3_wrong_0 : cX3_wrong.data.toList.drop 0 = dktX3_wrong_0 := by decide +kernel
theorem dX3_wrong_0 : decode cX3_wrong 0 = .ok (.new 65, 3) := dk_187 0 65 (dk_at dksX3_wrong_0 0 rfl rfl)
theorem dX3_wrong_3 : decode cX3_wrong 3 = .ok (.dup, 1) := dk_89 (dk_at dksX3_wrong_0 3 rfl rfl)
theorem dX3_wrong_4 : decode cX3_wrong 4 = .ok (.iload_n 1, 1) := dk_27 (dk_at dksX3_wrong_0 4 rfl rfl)
theorem dX3_wrong_5 : decode cX3_wrong 5 = .ok (.aload_n 0, 1) := dk_42 (dk_at dksX3_wrong_0 5 rfl rfl)
theorem dX3_wrong_6 : decode cX3_wrong 6 = .ok (.getfield 22, 3) := dk_180 0 22 (dk_at dksX3_wrong_0 6 rfl rfl)
theorem dX3_wrong_9 : decode cX3_wrong 9 = .ok (.invokespecial 67, 3) := dk_183 0 67 (dk_at dksX3_wrong_0 9 rfl rfl)
theorem dX3_wrong_12 : decode cX3_wrong 12 = .ok (.areturn, 1) := dk_176 (dk_at dksX3_wrong_0 12 rfl rfl)
abbrev MX3_wrong : jjM := (yX3_wrong, cX3_wrong, 2, (Option.some (Jvm.ClassFile.FieldType.object "SelfSorting$Wrong")))
theorem npX3_wrong : yX3_wrong.cls ≠ "java/lang/invoke/MethodHandle" ∧ yX3_wrong.cls ≠ "java/lang/invoke/VarHandle" ∧ (parseMethodDescriptor yX3_wrong.desc).map (fun d => d.parameters.length) = some 1 := by decide +kernel
abbrev cX3_clause : ByteArray := prog_14_method_11_code
def yX3_clause : MethodName := ⟨RX3, "clause", "(LSelfSorting$Text;)V"⟩
def dkwX3_clause_4 : List UInt8 := [43, 180, 0, 97, 182, 0, 125, 182, 0, 129, 87, 177]
abbrev dktX3_clause_4 : List UInt8 := dkwX3_clause_4 ++ []
def dkwX3_clause_3 : List UInt8 := [181, 0, 90, 167, 0, 32, 43, 42, 4, 5, 182, 0, 119, 181, 0, 94, 167, 0, 19, 43, 180, 0, 121, 42]
abbrev dktX3_clause_3 : List UInt8 := dkwX3_clause_3 ++ dktX3_clause_4
def dkwX3_clause_2 : List UInt8 := [42, 43, 182, 0, 108, 167, 0, 54, 43, 42, 182, 0, 111, 181, 0, 86, 167, 0, 43, 43, 42, 182, 0, 115]
abbrev dktX3_clause_2 : List UInt8 := dkwX3_clause_2 ++ dktX3_clause_3
def dkwX3_clause_1 : List UInt8 := [170, 0, 0, 0, 0, 0, 0, 75, 0, 0, 0, 200, 0, 0, 0, 203, 0, 0, 0, 32, 0, 0, 0, 40, 0, 0, 0, 51, 0, 0, 0, 62]
abbrev dktX3_clause_1 : List UInt8 := dkwX3_clause_1 ++ dktX3_clause_2
def dkwX3_clause_0 : List UInt8 := [42, 180, 0, 83]
abbrev dktX3_clause_0 : List UInt8 := dkwX3_clause_0 ++ dktX3_clause_1
theorem dksX3_clause_0 : cX3_clause.data.toList.drop 0 = dktX3_clause_0 := by decide +kernel
theorem dksX3_clause_1 : cX3_clause.data.toList.drop 4 = dktX3_clause_1 := dk_seg dksX3_clause_0 4 rfl rfl
theorem dksX3_clause_2 : cX3_clause.data.toList.drop 36 = dktX3_clause_2 := dk_seg dksX3_clause_1 32 rfl rfl
theorem dksX3_clause_3 : cX3_clause.data.toList.drop 60 = dktX3_clause_3 := dk_seg dksX3_clause_2 24 rfl rfl
theorem dksX3_clause_4 : cX3_clause.data.toList.drop 84 = dktX3_clause_4 := dk_seg dksX3_clause_3 24 rfl rfl
theorem dX3_clause_0 : decode cX3_clause 0 = .ok (.aload_n 0, 1) := dk_42 (dk_at dksX3_clause_0 0 rfl rfl)
theorem dX3_clause_1 : decode cX3_clause 1 = .ok (.getfield 83, 3) := dk_180 0 83 (dk_at dksX3_clause_0 1 rfl rfl)
theorem dX3_clause_4 : decode cX3_clause 4 = .ok (.tableswitch 75 200 203 #[32, 40, 51, 62], 32) := by decide +kernel
theorem dX3_clause_36 : decode cX3_clause 36 = .ok (.aload_n 0, 1) := dk_42 (dk_at dksX3_clause_2 0 rfl rfl)
theorem dX3_clause_37 : decode cX3_clause 37 = .ok (.aload_n 1, 1) := dk_43 (dk_at dksX3_clause_2 1 rfl rfl)
theorem dX3_clause_38 : decode cX3_clause 38 = .ok (.invokevirtual 108, 3) := dk_182 0 108 (dk_at dksX3_clause_2 2 rfl rfl)
theorem dX3_clause_41 : decode cX3_clause 41 = .ok (.goto 54, 3) := dk_167 0 54 (dk_at dksX3_clause_2 5 rfl rfl)
theorem dX3_clause_44 : decode cX3_clause 44 = .ok (.aload_n 1, 1) := dk_43 (dk_at dksX3_clause_2 8 rfl rfl)
theorem dX3_clause_45 : decode cX3_clause 45 = .ok (.aload_n 0, 1) := dk_42 (dk_at dksX3_clause_2 9 rfl rfl)
theorem dX3_clause_46 : decode cX3_clause 46 = .ok (.invokevirtual 111, 3) := dk_182 0 111 (dk_at dksX3_clause_2 10 rfl rfl)
theorem dX3_clause_49 : decode cX3_clause 49 = .ok (.putfield 86, 3) := dk_181 0 86 (dk_at dksX3_clause_2 13 rfl rfl)
theorem dX3_clause_52 : decode cX3_clause 52 = .ok (.goto 43, 3) := dk_167 0 43 (dk_at dksX3_clause_2 16 rfl rfl)
theorem dX3_clause_55 : decode cX3_clause 55 = .ok (.aload_n 1, 1) := dk_43 (dk_at dksX3_clause_2 19 rfl rfl)
theorem dX3_clause_56 : decode cX3_clause 56 = .ok (.aload_n 0, 1) := dk_42 (dk_at dksX3_clause_2 20 rfl rfl)
theorem dX3_clause_57 : decode cX3_clause 57 = .ok (.invokevirtual 115, 3) := dk_182 0 115 (dk_at dksX3_clause_2 21 rfl rfl)
theorem dX3_clause_60 : decode cX3_clause 60 = .ok (.putfield 90, 3) := dk_181 0 90 (dk_at dksX3_clause_3 0 rfl rfl)
theorem dX3_clause_63 : decode cX3_clause 63 = .ok (.goto 32, 3) := dk_167 0 32 (dk_at dksX3_clause_3 3 rfl rfl)
theorem dX3_clause_66 : decode cX3_clause 66 = .ok (.aload_n 1, 1) := dk_43 (dk_at dksX3_clause_3 6 rfl rfl)
theorem dX3_clause_67 : decode cX3_clause 67 = .ok (.aload_n 0, 1) := dk_42 (dk_at dksX3_clause_3 7 rfl rfl)
theorem dX3_clause_68 : decode cX3_clause 68 = .ok (.iconst 1, 1) := dk_4 (dk_at dksX3_clause_3 8 rfl rfl)
theorem dX3_clause_69 : decode cX3_clause 69 = .ok (.iconst 2, 1) := dk_5 (dk_at dksX3_clause_3 9 rfl rfl)
theorem dX3_clause_70 : decode cX3_clause 70 = .ok (.invokevirtual 119, 3) := dk_182 0 119 (dk_at dksX3_clause_3 10 rfl rfl)
theorem dX3_clause_73 : decode cX3_clause 73 = .ok (.putfield 94, 3) := dk_181 0 94 (dk_at dksX3_clause_3 13 rfl rfl)
theorem dX3_clause_76 : decode cX3_clause 76 = .ok (.goto 19, 3) := dk_167 0 19 (dk_at dksX3_clause_3 16 rfl rfl)
theorem dX3_clause_79 : decode cX3_clause 79 = .ok (.aload_n 1, 1) := dk_43 (dk_at dksX3_clause_3 19 rfl rfl)
theorem dX3_clause_80 : decode cX3_clause 80 = .ok (.getfield 121, 3) := dk_180 0 121 (dk_at dksX3_clause_3 20 rfl rfl)
theorem dX3_clause_83 : decode cX3_clause 83 = .ok (.aload_n 0, 1) := dk_42 (dk_at dksX3_clause_3 23 rfl rfl)
theorem dX3_clause_84 : decode cX3_clause 84 = .ok (.aload_n 1, 1) := dk_43 (dk_at dksX3_clause_4 0 rfl rfl)
theorem dX3_clause_85 : decode cX3_clause 85 = .ok (.getfield 97, 3) := dk_180 0 97 (dk_at dksX3_clause_4 1 rfl rfl)
theorem dX3_clause_88 : decode cX3_clause 88 = .ok (.invokevirtual 125, 3) := dk_182 0 125 (dk_at dksX3_clause_4 4 rfl rfl)
theorem dX3_clause_91 : decode cX3_clause 91 = .ok (.invokevirtual 129, 3) := dk_182 0 129 (dk_at dksX3_clause_4 7 rfl rfl)
theorem dX3_clause_94 : decode cX3_clause 94 = .ok (.pop, 1) := dk_87 (dk_at dksX3_clause_4 10 rfl rfl)
theorem dX3_clause_95 : decode cX3_clause 95 = .ok (.return_, 1) := dk_177 (dk_at dksX3_clause_4 11 rfl rfl)
abbrev MX3_clause : jjM := (yX3_clause, cX3_clause, 2, (Option.none : Option Jvm.ClassFile.FieldType))
theorem npX3_clause : yX3_clause.cls ≠ "java/lang/invoke/MethodHandle" ∧ yX3_clause.cls ≠ "java/lang/invoke/VarHandle" ∧ (parseMethodDescriptor yX3_clause.desc).map (fun d => d.parameters.length) = some 1 := by decide +kernel
abbrev cX3_law : ByteArray := prog_14_method_12_code
def yX3_law : MethodName := ⟨RX3, "law", "(LSelfSorting$Text;)V"⟩
def dkwX3_law_2 : List UInt8 := [28, 42, 182, 0, 111, 83, 177]
abbrev dktX3_law_2 : List UInt8 := dkwX3_law_2 ++ []
def dkwX3_law_1 : List UInt8 := [180, 0, 43, 50, 198, 0, 9, 42, 7, 182, 0, 70, 191, 42, 3, 8, 182, 0, 119, 61, 43, 180, 0, 135]
abbrev dktX3_law_1 : List UInt8 := dkwX3_law_1 ++ dktX3_law_2
def dkwX3_law_0 : List UInt8 := [42, 180, 0, 25, 17, 1, 44, 160, 0, 30, 42, 180, 0, 43, 16, 6, 162, 0, 21, 43, 180, 0, 135, 42]
abbrev dktX3_law_0 : List UInt8 := dkwX3_law_0 ++ dktX3_law_1
theorem dksX3_law_0 : cX3_law.data.toList.drop 0 = dktX3_law_0 := by decide +kernel
theorem dksX3_law_1 : cX3_law.data.toList.drop 24 = dktX3_law_1 := dk_seg dksX3_law_0 24 rfl rfl
theorem dksX3_law_2 : cX3_law.data.toList.drop 48 = dktX3_law_2 := dk_seg dksX3_law_1 24 rfl rfl
theorem dX3_law_0 : decode cX3_law 0 = .ok (.aload_n 0, 1) := dk_42 (dk_at dksX3_law_0 0 rfl rfl)
theorem dX3_law_1 : decode cX3_law 1 = .ok (.getfield 25, 3) := dk_180 0 25 (dk_at dksX3_law_0 1 rfl rfl)
theorem dX3_law_4 : decode cX3_law 4 = .ok (.sipush 300, 3) := dk_17 1 44 (dk_at dksX3_law_0 4 rfl rfl)
theorem dX3_law_7 : decode cX3_law 7 = .ok (.if_icmp .ne 30, 3) := dk_160 0 30 (dk_at dksX3_law_0 7 rfl rfl)
theorem dX3_law_10 : decode cX3_law 10 = .ok (.aload_n 0, 1) := dk_42 (dk_at dksX3_law_0 10 rfl rfl)
theorem dX3_law_11 : decode cX3_law 11 = .ok (.getfield 43, 3) := dk_180 0 43 (dk_at dksX3_law_0 11 rfl rfl)
theorem dX3_law_14 : decode cX3_law 14 = .ok (.bipush 6, 2) := dk_16 6 (dk_at dksX3_law_0 14 rfl rfl)
theorem dX3_law_16 : decode cX3_law 16 = .ok (.if_icmp .ge 21, 3) := dk_162 0 21 (dk_at dksX3_law_0 16 rfl rfl)
theorem dX3_law_19 : decode cX3_law 19 = .ok (.aload_n 1, 1) := dk_43 (dk_at dksX3_law_0 19 rfl rfl)
theorem dX3_law_20 : decode cX3_law 20 = .ok (.getfield 135, 3) := dk_180 0 135 (dk_at dksX3_law_0 20 rfl rfl)
theorem dX3_law_23 : decode cX3_law 23 = .ok (.aload_n 0, 1) := dk_42 (dk_at dksX3_law_0 23 rfl rfl)
theorem dX3_law_24 : decode cX3_law 24 = .ok (.getfield 43, 3) := dk_180 0 43 (dk_at dksX3_law_1 0 rfl rfl)
theorem dX3_law_27 : decode cX3_law 27 = .ok (.aaload, 1) := dk_50 (dk_at dksX3_law_1 3 rfl rfl)
theorem dX3_law_28 : decode cX3_law 28 = .ok (.ifnull 9, 3) := dk_198 0 9 (dk_at dksX3_law_1 4 rfl rfl)
theorem dX3_law_31 : decode cX3_law 31 = .ok (.aload_n 0, 1) := dk_42 (dk_at dksX3_law_1 7 rfl rfl)
theorem dX3_law_32 : decode cX3_law 32 = .ok (.iconst 4, 1) := dk_7 (dk_at dksX3_law_1 8 rfl rfl)
theorem dX3_law_33 : decode cX3_law 33 = .ok (.invokevirtual 70, 3) := dk_182 0 70 (dk_at dksX3_law_1 9 rfl rfl)
theorem dX3_law_36 : decode cX3_law 36 = .ok (.athrow, 1) := dk_191 (dk_at dksX3_law_1 12 rfl rfl)
theorem dX3_law_37 : decode cX3_law 37 = .ok (.aload_n 0, 1) := dk_42 (dk_at dksX3_law_1 13 rfl rfl)
theorem dX3_law_38 : decode cX3_law 38 = .ok (.iconst 0, 1) := dk_3 (dk_at dksX3_law_1 14 rfl rfl)
theorem dX3_law_39 : decode cX3_law 39 = .ok (.iconst 5, 1) := dk_8 (dk_at dksX3_law_1 15 rfl rfl)
theorem dX3_law_40 : decode cX3_law 40 = .ok (.invokevirtual 119, 3) := dk_182 0 119 (dk_at dksX3_law_1 16 rfl rfl)
theorem dX3_law_43 : decode cX3_law 43 = .ok (.istore_n 2, 1) := dk_61 (dk_at dksX3_law_1 19 rfl rfl)
theorem dX3_law_44 : decode cX3_law 44 = .ok (.aload_n 1, 1) := dk_43 (dk_at dksX3_law_1 20 rfl rfl)
theorem dX3_law_45 : decode cX3_law 45 = .ok (.getfield 135, 3) := dk_180 0 135 (dk_at dksX3_law_1 21 rfl rfl)
theorem dX3_law_48 : decode cX3_law 48 = .ok (.iload_n 2, 1) := dk_28 (dk_at dksX3_law_2 0 rfl rfl)
theorem dX3_law_49 : decode cX3_law 49 = .ok (.aload_n 0, 1) := dk_42 (dk_at dksX3_law_2 1 rfl rfl)
theorem dX3_law_50 : decode cX3_law 50 = .ok (.invokevirtual 111, 3) := dk_182 0 111 (dk_at dksX3_law_2 2 rfl rfl)
theorem dX3_law_53 : decode cX3_law 53 = .ok (.aastore, 1) := dk_83 (dk_at dksX3_law_2 5 rfl rfl)
theorem dX3_law_54 : decode cX3_law 54 = .ok (.return_, 1) := dk_177 (dk_at dksX3_law_2 6 rfl rfl)
abbrev MX3_law : jjM := (yX3_law, cX3_law, 3, (Option.none : Option Jvm.ClassFile.FieldType))
theorem npX3_law : yX3_law.cls ≠ "java/lang/invoke/MethodHandle" ∧ yX3_law.cls ≠ "java/lang/invoke/VarHandle" ∧ (parseMethodDescriptor yX3_law.desc).map (fun d => d.parameters.length) = some 1 := by decide +kernel
abbrev cX3_number : ByteArray := prog_14_method_8_code
def yX3_number : MethodName := ⟨RX3, "number", "(II)I"⟩
def dkwX3_number_2 : List UInt8 := [172]
abbrev dktX3_number_2 : List UInt8 := dkwX3_number_2 ++ []
def dkwX3_number_1 : List UInt8 := [42, 180, 0, 43, 28, 164, 0, 9, 42, 5, 182, 0, 70, 191, 42, 180, 0, 43, 62, 42, 182, 0, 74, 29]
abbrev dktX3_number_1 : List UInt8 := dkwX3_number_1 ++ dktX3_number_2
def dkwX3_number_0 : List UInt8 := [42, 180, 0, 25, 17, 1, 44, 159, 0, 9, 42, 4, 182, 0, 70, 191, 42, 180, 0, 43, 27, 161, 0, 11]
abbrev dktX3_number_0 : List UInt8 := dkwX3_number_0 ++ dktX3_number_1
theorem dksX3_number_0 : cX3_number.data.toList.drop 0 = dktX3_number_0 := by decide +kernel
theorem dksX3_number_1 : cX3_number.data.toList.drop 24 = dktX3_number_1 := dk_seg dksX3_number_0 24 rfl rfl
theorem dksX3_number_2 : cX3_number.data.toList.drop 48 = dktX3_number_2 := dk_seg dksX3_number_1 24 rfl rfl
theorem dX3_number_0 : decode cX3_number 0 = .ok (.aload_n 0, 1) := dk_42 (dk_at dksX3_number_0 0 rfl rfl)
theorem dX3_number_1 : decode cX3_number 1 = .ok (.getfield 25, 3) := dk_180 0 25 (dk_at dksX3_number_0 1 rfl rfl)
theorem dX3_number_4 : decode cX3_number 4 = .ok (.sipush 300, 3) := dk_17 1 44 (dk_at dksX3_number_0 4 rfl rfl)
theorem dX3_number_7 : decode cX3_number 7 = .ok (.if_icmp .eq 9, 3) := dk_159 0 9 (dk_at dksX3_number_0 7 rfl rfl)
theorem dX3_number_10 : decode cX3_number 10 = .ok (.aload_n 0, 1) := dk_42 (dk_at dksX3_number_0 10 rfl rfl)
theorem dX3_number_11 : decode cX3_number 11 = .ok (.iconst 1, 1) := dk_4 (dk_at dksX3_number_0 11 rfl rfl)
theorem dX3_number_12 : decode cX3_number 12 = .ok (.invokevirtual 70, 3) := dk_182 0 70 (dk_at dksX3_number_0 12 rfl rfl)
theorem dX3_number_15 : decode cX3_number 15 = .ok (.athrow, 1) := dk_191 (dk_at dksX3_number_0 15 rfl rfl)
theorem dX3_number_16 : decode cX3_number 16 = .ok (.aload_n 0, 1) := dk_42 (dk_at dksX3_number_0 16 rfl rfl)
theorem dX3_number_17 : decode cX3_number 17 = .ok (.getfield 43, 3) := dk_180 0 43 (dk_at dksX3_number_0 17 rfl rfl)
theorem dX3_number_20 : decode cX3_number 20 = .ok (.iload_n 1, 1) := dk_27 (dk_at dksX3_number_0 20 rfl rfl)
theorem dX3_number_21 : decode cX3_number 21 = .ok (.if_icmp .lt 11, 3) := dk_161 0 11 (dk_at dksX3_number_0 21 rfl rfl)
theorem dX3_number_24 : decode cX3_number 24 = .ok (.aload_n 0, 1) := dk_42 (dk_at dksX3_number_1 0 rfl rfl)
theorem dX3_number_25 : decode cX3_number 25 = .ok (.getfield 43, 3) := dk_180 0 43 (dk_at dksX3_number_1 1 rfl rfl)
theorem dX3_number_28 : decode cX3_number 28 = .ok (.iload_n 2, 1) := dk_28 (dk_at dksX3_number_1 4 rfl rfl)
theorem dX3_number_29 : decode cX3_number 29 = .ok (.if_icmp .le 9, 3) := dk_164 0 9 (dk_at dksX3_number_1 5 rfl rfl)
theorem dX3_number_32 : decode cX3_number 32 = .ok (.aload_n 0, 1) := dk_42 (dk_at dksX3_number_1 8 rfl rfl)
theorem dX3_number_33 : decode cX3_number 33 = .ok (.iconst 2, 1) := dk_5 (dk_at dksX3_number_1 9 rfl rfl)
theorem dX3_number_34 : decode cX3_number 34 = .ok (.invokevirtual 70, 3) := dk_182 0 70 (dk_at dksX3_number_1 10 rfl rfl)
theorem dX3_number_37 : decode cX3_number 37 = .ok (.athrow, 1) := dk_191 (dk_at dksX3_number_1 13 rfl rfl)
theorem dX3_number_38 : decode cX3_number 38 = .ok (.aload_n 0, 1) := dk_42 (dk_at dksX3_number_1 14 rfl rfl)
theorem dX3_number_39 : decode cX3_number 39 = .ok (.getfield 43, 3) := dk_180 0 43 (dk_at dksX3_number_1 15 rfl rfl)
theorem dX3_number_42 : decode cX3_number 42 = .ok (.istore_n 3, 1) := dk_62 (dk_at dksX3_number_1 18 rfl rfl)
theorem dX3_number_43 : decode cX3_number 43 = .ok (.aload_n 0, 1) := dk_42 (dk_at dksX3_number_1 19 rfl rfl)
theorem dX3_number_44 : decode cX3_number 44 = .ok (.invokevirtual 74, 3) := dk_182 0 74 (dk_at dksX3_number_1 20 rfl rfl)
theorem dX3_number_47 : decode cX3_number 47 = .ok (.iload_n 3, 1) := dk_29 (dk_at dksX3_number_1 23 rfl rfl)
theorem dX3_number_48 : decode cX3_number 48 = .ok (.ireturn, 1) := dk_172 (dk_at dksX3_number_2 0 rfl rfl)
abbrev MX3_number : jjM := (yX3_number, cX3_number, 4, (Option.some Jvm.ClassFile.FieldType.int))
theorem npX3_number : yX3_number.cls ≠ "java/lang/invoke/MethodHandle" ∧ yX3_number.cls ≠ "java/lang/invoke/VarHandle" ∧ (parseMethodDescriptor yX3_number.desc).map (fun d => d.parameters.length) = some 2 := by decide +kernel
abbrev cX3_either : ByteArray := prog_14_method_14_code
def yX3_either : MethodName := ⟨RX3, "either", "()LSelfSorting$Asked;"⟩
def dkwX3_either_2 : List UInt8 := [160, 0, 14, 43, 3, 182, 0, 149, 192, 0, 153, 167, 0, 12, 187, 0, 155, 89, 3, 43, 183, 0, 157, 176]
abbrev dktX3_either_2 : List UInt8 := dkwX3_either_2 ++ []
def dkwX3_either_1 : List UInt8 := [160, 0, 19, 42, 182, 0, 74, 43, 42, 182, 0, 144, 182, 0, 129, 87, 167, 255, 233, 43, 182, 0, 147, 4]
abbrev dktX3_either_1 : List UInt8 := dkwX3_either_1 ++ dktX3_either_2
def dkwX3_either_0 : List UInt8 := [187, 0, 130, 89, 183, 0, 143, 76, 43, 42, 182, 0, 144, 182, 0, 129, 87, 42, 180, 0, 25, 17, 0, 212]
abbrev dktX3_either_0 : List UInt8 := dkwX3_either_0 ++ dktX3_either_1
theorem dksX3_either_0 : cX3_either.data.toList.drop 0 = dktX3_either_0 := by decide +kernel
theorem dksX3_either_1 : cX3_either.data.toList.drop 24 = dktX3_either_1 := dk_seg dksX3_either_0 24 rfl rfl
theorem dksX3_either_2 : cX3_either.data.toList.drop 48 = dktX3_either_2 := dk_seg dksX3_either_1 24 rfl rfl
theorem dX3_either_0 : decode cX3_either 0 = .ok (.new 130, 3) := dk_187 0 130 (dk_at dksX3_either_0 0 rfl rfl)
theorem dX3_either_3 : decode cX3_either 3 = .ok (.dup, 1) := dk_89 (dk_at dksX3_either_0 3 rfl rfl)
theorem dX3_either_4 : decode cX3_either 4 = .ok (.invokespecial 143, 3) := dk_183 0 143 (dk_at dksX3_either_0 4 rfl rfl)
theorem dX3_either_7 : decode cX3_either 7 = .ok (.astore_n 1, 1) := dk_76 (dk_at dksX3_either_0 7 rfl rfl)
theorem dX3_either_8 : decode cX3_either 8 = .ok (.aload_n 1, 1) := dk_43 (dk_at dksX3_either_0 8 rfl rfl)
theorem dX3_either_9 : decode cX3_either 9 = .ok (.aload_n 0, 1) := dk_42 (dk_at dksX3_either_0 9 rfl rfl)
theorem dX3_either_10 : decode cX3_either 10 = .ok (.invokevirtual 144, 3) := dk_182 0 144 (dk_at dksX3_either_0 10 rfl rfl)
theorem dX3_either_13 : decode cX3_either 13 = .ok (.invokevirtual 129, 3) := dk_182 0 129 (dk_at dksX3_either_0 13 rfl rfl)
theorem dX3_either_16 : decode cX3_either 16 = .ok (.pop, 1) := dk_87 (dk_at dksX3_either_0 16 rfl rfl)
theorem dX3_either_17 : decode cX3_either 17 = .ok (.aload_n 0, 1) := dk_42 (dk_at dksX3_either_0 17 rfl rfl)
theorem dX3_either_18 : decode cX3_either 18 = .ok (.getfield 25, 3) := dk_180 0 25 (dk_at dksX3_either_0 18 rfl rfl)
theorem dX3_either_21 : decode cX3_either 21 = .ok (.sipush 212, 3) := dk_17 0 212 (dk_at dksX3_either_0 21 rfl rfl)
theorem dX3_either_24 : decode cX3_either 24 = .ok (.if_icmp .ne 19, 3) := dk_160 0 19 (dk_at dksX3_either_1 0 rfl rfl)
theorem dX3_either_27 : decode cX3_either 27 = .ok (.aload_n 0, 1) := dk_42 (dk_at dksX3_either_1 3 rfl rfl)
theorem dX3_either_28 : decode cX3_either 28 = .ok (.invokevirtual 74, 3) := dk_182 0 74 (dk_at dksX3_either_1 4 rfl rfl)
theorem dX3_either_31 : decode cX3_either 31 = .ok (.aload_n 1, 1) := dk_43 (dk_at dksX3_either_1 7 rfl rfl)
theorem dX3_either_32 : decode cX3_either 32 = .ok (.aload_n 0, 1) := dk_42 (dk_at dksX3_either_1 8 rfl rfl)
theorem dX3_either_33 : decode cX3_either 33 = .ok (.invokevirtual 144, 3) := dk_182 0 144 (dk_at dksX3_either_1 9 rfl rfl)
theorem dX3_either_36 : decode cX3_either 36 = .ok (.invokevirtual 129, 3) := dk_182 0 129 (dk_at dksX3_either_1 12 rfl rfl)
theorem dX3_either_39 : decode cX3_either 39 = .ok (.pop, 1) := dk_87 (dk_at dksX3_either_1 15 rfl rfl)
theorem dX3_either_40 : decode cX3_either 40 = .ok (.goto (-23), 3) := dk_167 255 233 (dk_at dksX3_either_1 16 rfl rfl)
theorem dX3_either_43 : decode cX3_either 43 = .ok (.aload_n 1, 1) := dk_43 (dk_at dksX3_either_1 19 rfl rfl)
theorem dX3_either_44 : decode cX3_either 44 = .ok (.invokevirtual 147, 3) := dk_182 0 147 (dk_at dksX3_either_1 20 rfl rfl)
theorem dX3_either_47 : decode cX3_either 47 = .ok (.iconst 1, 1) := dk_4 (dk_at dksX3_either_1 23 rfl rfl)
theorem dX3_either_48 : decode cX3_either 48 = .ok (.if_icmp .ne 14, 3) := dk_160 0 14 (dk_at dksX3_either_2 0 rfl rfl)
theorem dX3_either_51 : decode cX3_either 51 = .ok (.aload_n 1, 1) := dk_43 (dk_at dksX3_either_2 3 rfl rfl)
theorem dX3_either_52 : decode cX3_either 52 = .ok (.iconst 0, 1) := dk_3 (dk_at dksX3_either_2 4 rfl rfl)
theorem dX3_either_53 : decode cX3_either 53 = .ok (.invokevirtual 149, 3) := dk_182 0 149 (dk_at dksX3_either_2 5 rfl rfl)
theorem dX3_either_56 : decode cX3_either 56 = .ok (.checkcast 153, 3) := dk_192 0 153 (dk_at dksX3_either_2 8 rfl rfl)
theorem dX3_either_59 : decode cX3_either 59 = .ok (.goto 12, 3) := dk_167 0 12 (dk_at dksX3_either_2 11 rfl rfl)
theorem dX3_either_62 : decode cX3_either 62 = .ok (.new 155, 3) := dk_187 0 155 (dk_at dksX3_either_2 14 rfl rfl)
theorem dX3_either_65 : decode cX3_either 65 = .ok (.dup, 1) := dk_89 (dk_at dksX3_either_2 17 rfl rfl)
theorem dX3_either_66 : decode cX3_either 66 = .ok (.iconst 0, 1) := dk_3 (dk_at dksX3_either_2 18 rfl rfl)
theorem dX3_either_67 : decode cX3_either 67 = .ok (.aload_n 1, 1) := dk_43 (dk_at dksX3_either_2 19 rfl rfl)
theorem dX3_either_68 : decode cX3_either 68 = .ok (.invokespecial 157, 3) := dk_183 0 157 (dk_at dksX3_either_2 20 rfl rfl)
theorem dX3_either_71 : decode cX3_either 71 = .ok (.areturn, 1) := dk_176 (dk_at dksX3_either_2 23 rfl rfl)
abbrev MX3_either : jjM := (yX3_either, cX3_either, 2, (Option.some (Jvm.ClassFile.FieldType.object "SelfSorting$Asked")))
theorem npX3_either : yX3_either.cls ≠ "java/lang/invoke/MethodHandle" ∧ yX3_either.cls ≠ "java/lang/invoke/VarHandle" ∧ (parseMethodDescriptor yX3_either.desc).map (fun d => d.parameters.length) = some 0 := by decide +kernel
abbrev cX3_both : ByteArray := prog_14_method_15_code
def yX3_both : MethodName := ⟨RX3, "both", "()LSelfSorting$Asked;"⟩
def dkwX3_both_2 : List UInt8 := [160, 0, 14, 43, 3, 182, 0, 149, 192, 0, 153, 167, 0, 12, 187, 0, 155, 89, 4, 43, 183, 0, 157, 176]
abbrev dktX3_both_2 : List UInt8 := dkwX3_both_2 ++ []
def dkwX3_both_1 : List UInt8 := [160, 0, 19, 42, 182, 0, 74, 43, 42, 182, 0, 160, 182, 0, 129, 87, 167, 255, 233, 43, 182, 0, 147, 4]
abbrev dktX3_both_1 : List UInt8 := dkwX3_both_1 ++ dktX3_both_2
def dkwX3_both_0 : List UInt8 := [187, 0, 130, 89, 183, 0, 143, 76, 43, 42, 182, 0, 160, 182, 0, 129, 87, 42, 180, 0, 25, 17, 0, 213]
abbrev dktX3_both_0 : List UInt8 := dkwX3_both_0 ++ dktX3_both_1
theorem dksX3_both_0 : cX3_both.data.toList.drop 0 = dktX3_both_0 := by decide +kernel
theorem dksX3_both_1 : cX3_both.data.toList.drop 24 = dktX3_both_1 := dk_seg dksX3_both_0 24 rfl rfl
theorem dksX3_both_2 : cX3_both.data.toList.drop 48 = dktX3_both_2 := dk_seg dksX3_both_1 24 rfl rfl
theorem dX3_both_0 : decode cX3_both 0 = .ok (.new 130, 3) := dk_187 0 130 (dk_at dksX3_both_0 0 rfl rfl)
theorem dX3_both_3 : decode cX3_both 3 = .ok (.dup, 1) := dk_89 (dk_at dksX3_both_0 3 rfl rfl)
theorem dX3_both_4 : decode cX3_both 4 = .ok (.invokespecial 143, 3) := dk_183 0 143 (dk_at dksX3_both_0 4 rfl rfl)
theorem dX3_both_7 : decode cX3_both 7 = .ok (.astore_n 1, 1) := dk_76 (dk_at dksX3_both_0 7 rfl rfl)
theorem dX3_both_8 : decode cX3_both 8 = .ok (.aload_n 1, 1) := dk_43 (dk_at dksX3_both_0 8 rfl rfl)
theorem dX3_both_9 : decode cX3_both 9 = .ok (.aload_n 0, 1) := dk_42 (dk_at dksX3_both_0 9 rfl rfl)
theorem dX3_both_10 : decode cX3_both 10 = .ok (.invokevirtual 160, 3) := dk_182 0 160 (dk_at dksX3_both_0 10 rfl rfl)
theorem dX3_both_13 : decode cX3_both 13 = .ok (.invokevirtual 129, 3) := dk_182 0 129 (dk_at dksX3_both_0 13 rfl rfl)
theorem dX3_both_16 : decode cX3_both 16 = .ok (.pop, 1) := dk_87 (dk_at dksX3_both_0 16 rfl rfl)
theorem dX3_both_17 : decode cX3_both 17 = .ok (.aload_n 0, 1) := dk_42 (dk_at dksX3_both_0 17 rfl rfl)
theorem dX3_both_18 : decode cX3_both 18 = .ok (.getfield 25, 3) := dk_180 0 25 (dk_at dksX3_both_0 18 rfl rfl)
theorem dX3_both_21 : decode cX3_both 21 = .ok (.sipush 213, 3) := dk_17 0 213 (dk_at dksX3_both_0 21 rfl rfl)
theorem dX3_both_24 : decode cX3_both 24 = .ok (.if_icmp .ne 19, 3) := dk_160 0 19 (dk_at dksX3_both_1 0 rfl rfl)
theorem dX3_both_27 : decode cX3_both 27 = .ok (.aload_n 0, 1) := dk_42 (dk_at dksX3_both_1 3 rfl rfl)
theorem dX3_both_28 : decode cX3_both 28 = .ok (.invokevirtual 74, 3) := dk_182 0 74 (dk_at dksX3_both_1 4 rfl rfl)
theorem dX3_both_31 : decode cX3_both 31 = .ok (.aload_n 1, 1) := dk_43 (dk_at dksX3_both_1 7 rfl rfl)
theorem dX3_both_32 : decode cX3_both 32 = .ok (.aload_n 0, 1) := dk_42 (dk_at dksX3_both_1 8 rfl rfl)
theorem dX3_both_33 : decode cX3_both 33 = .ok (.invokevirtual 160, 3) := dk_182 0 160 (dk_at dksX3_both_1 9 rfl rfl)
theorem dX3_both_36 : decode cX3_both 36 = .ok (.invokevirtual 129, 3) := dk_182 0 129 (dk_at dksX3_both_1 12 rfl rfl)
theorem dX3_both_39 : decode cX3_both 39 = .ok (.pop, 1) := dk_87 (dk_at dksX3_both_1 15 rfl rfl)
theorem dX3_both_40 : decode cX3_both 40 = .ok (.goto (-23), 3) := dk_167 255 233 (dk_at dksX3_both_1 16 rfl rfl)
theorem dX3_both_43 : decode cX3_both 43 = .ok (.aload_n 1, 1) := dk_43 (dk_at dksX3_both_1 19 rfl rfl)
theorem dX3_both_44 : decode cX3_both 44 = .ok (.invokevirtual 147, 3) := dk_182 0 147 (dk_at dksX3_both_1 20 rfl rfl)
theorem dX3_both_47 : decode cX3_both 47 = .ok (.iconst 1, 1) := dk_4 (dk_at dksX3_both_1 23 rfl rfl)
theorem dX3_both_48 : decode cX3_both 48 = .ok (.if_icmp .ne 14, 3) := dk_160 0 14 (dk_at dksX3_both_2 0 rfl rfl)
theorem dX3_both_51 : decode cX3_both 51 = .ok (.aload_n 1, 1) := dk_43 (dk_at dksX3_both_2 3 rfl rfl)
theorem dX3_both_52 : decode cX3_both 52 = .ok (.iconst 0, 1) := dk_3 (dk_at dksX3_both_2 4 rfl rfl)
theorem dX3_both_53 : decode cX3_both 53 = .ok (.invokevirtual 149, 3) := dk_182 0 149 (dk_at dksX3_both_2 5 rfl rfl)
theorem dX3_both_56 : decode cX3_both 56 = .ok (.checkcast 153, 3) := dk_192 0 153 (dk_at dksX3_both_2 8 rfl rfl)
theorem dX3_both_59 : decode cX3_both 59 = .ok (.goto 12, 3) := dk_167 0 12 (dk_at dksX3_both_2 11 rfl rfl)
theorem dX3_both_62 : decode cX3_both 62 = .ok (.new 155, 3) := dk_187 0 155 (dk_at dksX3_both_2 14 rfl rfl)
theorem dX3_both_65 : decode cX3_both 65 = .ok (.dup, 1) := dk_89 (dk_at dksX3_both_2 17 rfl rfl)
theorem dX3_both_66 : decode cX3_both 66 = .ok (.iconst 1, 1) := dk_4 (dk_at dksX3_both_2 18 rfl rfl)
theorem dX3_both_67 : decode cX3_both 67 = .ok (.aload_n 1, 1) := dk_43 (dk_at dksX3_both_2 19 rfl rfl)
theorem dX3_both_68 : decode cX3_both 68 = .ok (.invokespecial 157, 3) := dk_183 0 157 (dk_at dksX3_both_2 20 rfl rfl)
theorem dX3_both_71 : decode cX3_both 71 = .ok (.areturn, 1) := dk_176 (dk_at dksX3_both_2 23 rfl rfl)
abbrev MX3_both : jjM := (yX3_both, cX3_both, 2, (Option.some (Jvm.ClassFile.FieldType.object "SelfSorting$Asked")))
theorem npX3_both : yX3_both.cls ≠ "java/lang/invoke/MethodHandle" ∧ yX3_both.cls ≠ "java/lang/invoke/VarHandle" ∧ (parseMethodDescriptor yX3_both.desc).map (fun d => d.parameters.length) = some 0 := by decide +kernel
abbrev cX3_ask : ByteArray := prog_14_method_16_code
def yX3_ask : MethodName := ⟨RX3, "ask", "()LSelfSorting$Asked;"⟩
def dkwX3_ask_4 : List UInt8 := [191, 42, 182, 0, 74, 187, 0, 171, 89, 28, 43, 42, 182, 0, 115, 183, 0, 173, 176]
abbrev dktX3_ask_4 : List UInt8 := dkwX3_ask_4 ++ []
def dkwX3_ask_3 : List UInt8 := [16, 35, 159, 0, 23, 28, 17, 1, 47, 159, 0, 16, 28, 17, 1, 48, 159, 0, 9, 42, 4, 182, 0, 70]
abbrev dktX3_ask_3 : List UInt8 := dkwX3_ask_3 ++ dktX3_ask_4
def dkwX3_ask_2 : List UInt8 := [180, 0, 25, 61, 28, 16, 60, 159, 0, 41, 28, 16, 62, 159, 0, 35, 28, 16, 61, 159, 0, 29, 28]
abbrev dktX3_ask_2 : List UInt8 := dkwX3_ask_2 ++ dktX3_ask_3
def dkwX3_ask_1 : List UInt8 := [183, 0, 168, 76, 42, 89, 180, 0, 77, 4, 100, 181, 0, 77, 43, 176, 42, 182, 0, 115, 76, 42]
abbrev dktX3_ask_1 : List UInt8 := dkwX3_ask_1 ++ dktX3_ask_2
def dkwX3_ask_0 : List UInt8 := [42, 180, 0, 25, 17, 0, 214, 160, 0, 31, 42, 182, 0, 163, 187, 0, 166, 89, 42, 182, 0, 160]
abbrev dktX3_ask_0 : List UInt8 := dkwX3_ask_0 ++ dktX3_ask_1
theorem dksX3_ask_0 : cX3_ask.data.toList.drop 0 = dktX3_ask_0 := by decide +kernel
theorem dksX3_ask_1 : cX3_ask.data.toList.drop 22 = dktX3_ask_1 := dk_seg dksX3_ask_0 22 rfl rfl
theorem dksX3_ask_2 : cX3_ask.data.toList.drop 44 = dktX3_ask_2 := dk_seg dksX3_ask_1 22 rfl rfl
theorem dksX3_ask_3 : cX3_ask.data.toList.drop 67 = dktX3_ask_3 := dk_seg dksX3_ask_2 23 rfl rfl
theorem dksX3_ask_4 : cX3_ask.data.toList.drop 91 = dktX3_ask_4 := dk_seg dksX3_ask_3 24 rfl rfl
theorem dX3_ask_0 : decode cX3_ask 0 = .ok (.aload_n 0, 1) := dk_42 (dk_at dksX3_ask_0 0 rfl rfl)
theorem dX3_ask_1 : decode cX3_ask 1 = .ok (.getfield 25, 3) := dk_180 0 25 (dk_at dksX3_ask_0 1 rfl rfl)
theorem dX3_ask_4 : decode cX3_ask 4 = .ok (.sipush 214, 3) := dk_17 0 214 (dk_at dksX3_ask_0 4 rfl rfl)
theorem dX3_ask_7 : decode cX3_ask 7 = .ok (.if_icmp .ne 31, 3) := dk_160 0 31 (dk_at dksX3_ask_0 7 rfl rfl)
theorem dX3_ask_10 : decode cX3_ask 10 = .ok (.aload_n 0, 1) := dk_42 (dk_at dksX3_ask_0 10 rfl rfl)
theorem dX3_ask_11 : decode cX3_ask 11 = .ok (.invokevirtual 163, 3) := dk_182 0 163 (dk_at dksX3_ask_0 11 rfl rfl)
theorem dX3_ask_14 : decode cX3_ask 14 = .ok (.new 166, 3) := dk_187 0 166 (dk_at dksX3_ask_0 14 rfl rfl)
theorem dX3_ask_17 : decode cX3_ask 17 = .ok (.dup, 1) := dk_89 (dk_at dksX3_ask_0 17 rfl rfl)
theorem dX3_ask_18 : decode cX3_ask 18 = .ok (.aload_n 0, 1) := dk_42 (dk_at dksX3_ask_0 18 rfl rfl)
theorem dX3_ask_19 : decode cX3_ask 19 = .ok (.invokevirtual 160, 3) := dk_182 0 160 (dk_at dksX3_ask_0 19 rfl rfl)
theorem dX3_ask_22 : decode cX3_ask 22 = .ok (.invokespecial 168, 3) := dk_183 0 168 (dk_at dksX3_ask_1 0 rfl rfl)
theorem dX3_ask_25 : decode cX3_ask 25 = .ok (.astore_n 1, 1) := dk_76 (dk_at dksX3_ask_1 3 rfl rfl)
theorem dX3_ask_26 : decode cX3_ask 26 = .ok (.aload_n 0, 1) := dk_42 (dk_at dksX3_ask_1 4 rfl rfl)
theorem dX3_ask_27 : decode cX3_ask 27 = .ok (.dup, 1) := dk_89 (dk_at dksX3_ask_1 5 rfl rfl)
theorem dX3_ask_28 : decode cX3_ask 28 = .ok (.getfield 77, 3) := dk_180 0 77 (dk_at dksX3_ask_1 6 rfl rfl)
theorem dX3_ask_31 : decode cX3_ask 31 = .ok (.iconst 1, 1) := dk_4 (dk_at dksX3_ask_1 9 rfl rfl)
theorem dX3_ask_32 : decode cX3_ask 32 = .ok (.isub, 1) := dk_100 (dk_at dksX3_ask_1 10 rfl rfl)
theorem dX3_ask_33 : decode cX3_ask 33 = .ok (.putfield 77, 3) := dk_181 0 77 (dk_at dksX3_ask_1 11 rfl rfl)
theorem dX3_ask_36 : decode cX3_ask 36 = .ok (.aload_n 1, 1) := dk_43 (dk_at dksX3_ask_1 14 rfl rfl)
theorem dX3_ask_37 : decode cX3_ask 37 = .ok (.areturn, 1) := dk_176 (dk_at dksX3_ask_1 15 rfl rfl)
theorem dX3_ask_38 : decode cX3_ask 38 = .ok (.aload_n 0, 1) := dk_42 (dk_at dksX3_ask_1 16 rfl rfl)
theorem dX3_ask_39 : decode cX3_ask 39 = .ok (.invokevirtual 115, 3) := dk_182 0 115 (dk_at dksX3_ask_1 17 rfl rfl)
theorem dX3_ask_42 : decode cX3_ask 42 = .ok (.astore_n 1, 1) := dk_76 (dk_at dksX3_ask_1 20 rfl rfl)
theorem dX3_ask_43 : decode cX3_ask 43 = .ok (.aload_n 0, 1) := dk_42 (dk_at dksX3_ask_1 21 rfl rfl)
theorem dX3_ask_44 : decode cX3_ask 44 = .ok (.getfield 25, 3) := dk_180 0 25 (dk_at dksX3_ask_2 0 rfl rfl)
theorem dX3_ask_47 : decode cX3_ask 47 = .ok (.istore_n 2, 1) := dk_61 (dk_at dksX3_ask_2 3 rfl rfl)
theorem dX3_ask_48 : decode cX3_ask 48 = .ok (.iload_n 2, 1) := dk_28 (dk_at dksX3_ask_2 4 rfl rfl)
theorem dX3_ask_49 : decode cX3_ask 49 = .ok (.bipush 60, 2) := dk_16 60 (dk_at dksX3_ask_2 5 rfl rfl)
theorem dX3_ask_51 : decode cX3_ask 51 = .ok (.if_icmp .eq 41, 3) := dk_159 0 41 (dk_at dksX3_ask_2 7 rfl rfl)
theorem dX3_ask_54 : decode cX3_ask 54 = .ok (.iload_n 2, 1) := dk_28 (dk_at dksX3_ask_2 10 rfl rfl)
theorem dX3_ask_55 : decode cX3_ask 55 = .ok (.bipush 62, 2) := dk_16 62 (dk_at dksX3_ask_2 11 rfl rfl)
theorem dX3_ask_57 : decode cX3_ask 57 = .ok (.if_icmp .eq 35, 3) := dk_159 0 35 (dk_at dksX3_ask_2 13 rfl rfl)
theorem dX3_ask_60 : decode cX3_ask 60 = .ok (.iload_n 2, 1) := dk_28 (dk_at dksX3_ask_2 16 rfl rfl)
theorem dX3_ask_61 : decode cX3_ask 61 = .ok (.bipush 61, 2) := dk_16 61 (dk_at dksX3_ask_2 17 rfl rfl)
theorem dX3_ask_63 : decode cX3_ask 63 = .ok (.if_icmp .eq 29, 3) := dk_159 0 29 (dk_at dksX3_ask_2 19 rfl rfl)
theorem dX3_ask_66 : decode cX3_ask 66 = .ok (.iload_n 2, 1) := dk_28 (dk_at dksX3_ask_2 22 rfl rfl)
theorem dX3_ask_67 : decode cX3_ask 67 = .ok (.bipush 35, 2) := dk_16 35 (dk_at dksX3_ask_3 0 rfl rfl)
theorem dX3_ask_69 : decode cX3_ask 69 = .ok (.if_icmp .eq 23, 3) := dk_159 0 23 (dk_at dksX3_ask_3 2 rfl rfl)
theorem dX3_ask_72 : decode cX3_ask 72 = .ok (.iload_n 2, 1) := dk_28 (dk_at dksX3_ask_3 5 rfl rfl)
theorem dX3_ask_73 : decode cX3_ask 73 = .ok (.sipush 303, 3) := dk_17 1 47 (dk_at dksX3_ask_3 6 rfl rfl)
theorem dX3_ask_76 : decode cX3_ask 76 = .ok (.if_icmp .eq 16, 3) := dk_159 0 16 (dk_at dksX3_ask_3 9 rfl rfl)
theorem dX3_ask_79 : decode cX3_ask 79 = .ok (.iload_n 2, 1) := dk_28 (dk_at dksX3_ask_3 12 rfl rfl)
theorem dX3_ask_80 : decode cX3_ask 80 = .ok (.sipush 304, 3) := dk_17 1 48 (dk_at dksX3_ask_3 13 rfl rfl)
theorem dX3_ask_83 : decode cX3_ask 83 = .ok (.if_icmp .eq 9, 3) := dk_159 0 9 (dk_at dksX3_ask_3 16 rfl rfl)
theorem dX3_ask_86 : decode cX3_ask 86 = .ok (.aload_n 0, 1) := dk_42 (dk_at dksX3_ask_3 19 rfl rfl)
theorem dX3_ask_87 : decode cX3_ask 87 = .ok (.iconst 1, 1) := dk_4 (dk_at dksX3_ask_3 20 rfl rfl)
theorem dX3_ask_88 : decode cX3_ask 88 = .ok (.invokevirtual 70, 3) := dk_182 0 70 (dk_at dksX3_ask_3 21 rfl rfl)
theorem dX3_ask_91 : decode cX3_ask 91 = .ok (.athrow, 1) := dk_191 (dk_at dksX3_ask_4 0 rfl rfl)
theorem dX3_ask_92 : decode cX3_ask 92 = .ok (.aload_n 0, 1) := dk_42 (dk_at dksX3_ask_4 1 rfl rfl)
theorem dX3_ask_93 : decode cX3_ask 93 = .ok (.invokevirtual 74, 3) := dk_182 0 74 (dk_at dksX3_ask_4 2 rfl rfl)
theorem dX3_ask_96 : decode cX3_ask 96 = .ok (.new 171, 3) := dk_187 0 171 (dk_at dksX3_ask_4 5 rfl rfl)
theorem dX3_ask_99 : decode cX3_ask 99 = .ok (.dup, 1) := dk_89 (dk_at dksX3_ask_4 8 rfl rfl)
theorem dX3_ask_100 : decode cX3_ask 100 = .ok (.iload_n 2, 1) := dk_28 (dk_at dksX3_ask_4 9 rfl rfl)
theorem dX3_ask_101 : decode cX3_ask 101 = .ok (.aload_n 1, 1) := dk_43 (dk_at dksX3_ask_4 10 rfl rfl)
theorem dX3_ask_102 : decode cX3_ask 102 = .ok (.aload_n 0, 1) := dk_42 (dk_at dksX3_ask_4 11 rfl rfl)
theorem dX3_ask_103 : decode cX3_ask 103 = .ok (.invokevirtual 115, 3) := dk_182 0 115 (dk_at dksX3_ask_4 12 rfl rfl)
theorem dX3_ask_106 : decode cX3_ask 106 = .ok (.invokespecial 173, 3) := dk_183 0 173 (dk_at dksX3_ask_4 15 rfl rfl)
theorem dX3_ask_109 : decode cX3_ask 109 = .ok (.areturn, 1) := dk_176 (dk_at dksX3_ask_4 18 rfl rfl)
abbrev MX3_ask : jjM := (yX3_ask, cX3_ask, 3, (Option.some (Jvm.ClassFile.FieldType.object "SelfSorting$Asked")))
theorem npX3_ask : yX3_ask.cls ≠ "java/lang/invoke/MethodHandle" ∧ yX3_ask.cls ≠ "java/lang/invoke/VarHandle" ∧ (parseMethodDescriptor yX3_ask.desc).map (fun d => d.parameters.length) = some 0 := by decide +kernel
abbrev cX3_opens : ByteArray := prog_14_method_9_code
def yX3_opens : MethodName := ⟨RX3, "opens", "()V"⟩
def dkwX3_opens_1 : List UInt8 := [181, 0, 77, 42, 182, 0, 74, 177]
abbrev dktX3_opens_1 : List UInt8 := dkwX3_opens_1 ++ []
def dkwX3_opens_0 : List UInt8 := [42, 180, 0, 77, 16, 8, 160, 0, 9, 42, 6, 182, 0, 70, 191, 42, 89, 180, 0, 77, 4, 96]
abbrev dktX3_opens_0 : List UInt8 := dkwX3_opens_0 ++ dktX3_opens_1
theorem dksX3_opens_0 : cX3_opens.data.toList.drop 0 = dktX3_opens_0 := by decide +kernel
theorem dksX3_opens_1 : cX3_opens.data.toList.drop 22 = dktX3_opens_1 := dk_seg dksX3_opens_0 22 rfl rfl
theorem dX3_opens_0 : decode cX3_opens 0 = .ok (.aload_n 0, 1) := dk_42 (dk_at dksX3_opens_0 0 rfl rfl)
theorem dX3_opens_1 : decode cX3_opens 1 = .ok (.getfield 77, 3) := dk_180 0 77 (dk_at dksX3_opens_0 1 rfl rfl)
theorem dX3_opens_4 : decode cX3_opens 4 = .ok (.bipush 8, 2) := dk_16 8 (dk_at dksX3_opens_0 4 rfl rfl)
theorem dX3_opens_6 : decode cX3_opens 6 = .ok (.if_icmp .ne 9, 3) := dk_160 0 9 (dk_at dksX3_opens_0 6 rfl rfl)
theorem dX3_opens_9 : decode cX3_opens 9 = .ok (.aload_n 0, 1) := dk_42 (dk_at dksX3_opens_0 9 rfl rfl)
theorem dX3_opens_10 : decode cX3_opens 10 = .ok (.iconst 3, 1) := dk_6 (dk_at dksX3_opens_0 10 rfl rfl)
theorem dX3_opens_11 : decode cX3_opens 11 = .ok (.invokevirtual 70, 3) := dk_182 0 70 (dk_at dksX3_opens_0 11 rfl rfl)
theorem dX3_opens_14 : decode cX3_opens 14 = .ok (.athrow, 1) := dk_191 (dk_at dksX3_opens_0 14 rfl rfl)
theorem dX3_opens_15 : decode cX3_opens 15 = .ok (.aload_n 0, 1) := dk_42 (dk_at dksX3_opens_0 15 rfl rfl)
theorem dX3_opens_16 : decode cX3_opens 16 = .ok (.dup, 1) := dk_89 (dk_at dksX3_opens_0 16 rfl rfl)
theorem dX3_opens_17 : decode cX3_opens 17 = .ok (.getfield 77, 3) := dk_180 0 77 (dk_at dksX3_opens_0 17 rfl rfl)
theorem dX3_opens_20 : decode cX3_opens 20 = .ok (.iconst 1, 1) := dk_4 (dk_at dksX3_opens_0 20 rfl rfl)
theorem dX3_opens_21 : decode cX3_opens 21 = .ok (.iadd, 1) := dk_96 (dk_at dksX3_opens_0 21 rfl rfl)
theorem dX3_opens_22 : decode cX3_opens 22 = .ok (.putfield 77, 3) := dk_181 0 77 (dk_at dksX3_opens_1 0 rfl rfl)
theorem dX3_opens_25 : decode cX3_opens 25 = .ok (.aload_n 0, 1) := dk_42 (dk_at dksX3_opens_1 3 rfl rfl)
theorem dX3_opens_26 : decode cX3_opens 26 = .ok (.invokevirtual 74, 3) := dk_182 0 74 (dk_at dksX3_opens_1 4 rfl rfl)
theorem dX3_opens_29 : decode cX3_opens 29 = .ok (.return_, 1) := dk_177 (dk_at dksX3_opens_1 7 rfl rfl)
abbrev MX3_opens : jjM := (yX3_opens, cX3_opens, 1, (Option.none : Option Jvm.ClassFile.FieldType))
theorem npX3_opens : yX3_opens.cls ≠ "java/lang/invoke/MethodHandle" ∧ yX3_opens.cls ≠ "java/lang/invoke/VarHandle" ∧ (parseMethodDescriptor yX3_opens.desc).map (fun d => d.parameters.length) = some 0 := by decide +kernel
abbrev cX3_sum : ByteArray := prog_14_method_17_code
def yX3_sum : MethodName := ⟨RX3, "sum", "()LSelfSorting$Sum;"⟩
def dkwX3_sum_2 : List UInt8 := [182, 0, 184, 167, 255, 220, 43, 182, 0, 187, 176]
abbrev dktX3_sum_2 : List UInt8 := dkwX3_sum_2 ++ []
def dkwX3_sum_1 : List UInt8 := [180, 0, 25, 16, 45, 160, 0, 24, 42, 180, 0, 25, 61, 42, 182, 0, 74, 43, 28, 42, 182, 0, 178]
abbrev dktX3_sum_1 : List UInt8 := dkwX3_sum_1 ++ dktX3_sum_2
def dkwX3_sum_0 : List UInt8 := [187, 0, 176, 89, 42, 182, 0, 178, 183, 0, 181, 76, 42, 180, 0, 25, 16, 43, 159, 0, 12, 42]
abbrev dktX3_sum_0 : List UInt8 := dkwX3_sum_0 ++ dktX3_sum_1
theorem dksX3_sum_0 : cX3_sum.data.toList.drop 0 = dktX3_sum_0 := by decide +kernel
theorem dksX3_sum_1 : cX3_sum.data.toList.drop 22 = dktX3_sum_1 := dk_seg dksX3_sum_0 22 rfl rfl
theorem dksX3_sum_2 : cX3_sum.data.toList.drop 45 = dktX3_sum_2 := dk_seg dksX3_sum_1 23 rfl rfl
theorem dX3_sum_0 : decode cX3_sum 0 = .ok (.new 176, 3) := dk_187 0 176 (dk_at dksX3_sum_0 0 rfl rfl)
theorem dX3_sum_3 : decode cX3_sum 3 = .ok (.dup, 1) := dk_89 (dk_at dksX3_sum_0 3 rfl rfl)
theorem dX3_sum_4 : decode cX3_sum 4 = .ok (.aload_n 0, 1) := dk_42 (dk_at dksX3_sum_0 4 rfl rfl)
theorem dX3_sum_5 : decode cX3_sum 5 = .ok (.invokevirtual 178, 3) := dk_182 0 178 (dk_at dksX3_sum_0 5 rfl rfl)
theorem dX3_sum_8 : decode cX3_sum 8 = .ok (.invokespecial 181, 3) := dk_183 0 181 (dk_at dksX3_sum_0 8 rfl rfl)
theorem dX3_sum_11 : decode cX3_sum 11 = .ok (.astore_n 1, 1) := dk_76 (dk_at dksX3_sum_0 11 rfl rfl)
theorem dX3_sum_12 : decode cX3_sum 12 = .ok (.aload_n 0, 1) := dk_42 (dk_at dksX3_sum_0 12 rfl rfl)
theorem dX3_sum_13 : decode cX3_sum 13 = .ok (.getfield 25, 3) := dk_180 0 25 (dk_at dksX3_sum_0 13 rfl rfl)
theorem dX3_sum_16 : decode cX3_sum 16 = .ok (.bipush 43, 2) := dk_16 43 (dk_at dksX3_sum_0 16 rfl rfl)
theorem dX3_sum_18 : decode cX3_sum 18 = .ok (.if_icmp .eq 12, 3) := dk_159 0 12 (dk_at dksX3_sum_0 18 rfl rfl)
theorem dX3_sum_21 : decode cX3_sum 21 = .ok (.aload_n 0, 1) := dk_42 (dk_at dksX3_sum_0 21 rfl rfl)
theorem dX3_sum_22 : decode cX3_sum 22 = .ok (.getfield 25, 3) := dk_180 0 25 (dk_at dksX3_sum_1 0 rfl rfl)
theorem dX3_sum_25 : decode cX3_sum 25 = .ok (.bipush 45, 2) := dk_16 45 (dk_at dksX3_sum_1 3 rfl rfl)
theorem dX3_sum_27 : decode cX3_sum 27 = .ok (.if_icmp .ne 24, 3) := dk_160 0 24 (dk_at dksX3_sum_1 5 rfl rfl)
theorem dX3_sum_30 : decode cX3_sum 30 = .ok (.aload_n 0, 1) := dk_42 (dk_at dksX3_sum_1 8 rfl rfl)
theorem dX3_sum_31 : decode cX3_sum 31 = .ok (.getfield 25, 3) := dk_180 0 25 (dk_at dksX3_sum_1 9 rfl rfl)
theorem dX3_sum_34 : decode cX3_sum 34 = .ok (.istore_n 2, 1) := dk_61 (dk_at dksX3_sum_1 12 rfl rfl)
theorem dX3_sum_35 : decode cX3_sum 35 = .ok (.aload_n 0, 1) := dk_42 (dk_at dksX3_sum_1 13 rfl rfl)
theorem dX3_sum_36 : decode cX3_sum 36 = .ok (.invokevirtual 74, 3) := dk_182 0 74 (dk_at dksX3_sum_1 14 rfl rfl)
theorem dX3_sum_39 : decode cX3_sum 39 = .ok (.aload_n 1, 1) := dk_43 (dk_at dksX3_sum_1 17 rfl rfl)
theorem dX3_sum_40 : decode cX3_sum 40 = .ok (.iload_n 2, 1) := dk_28 (dk_at dksX3_sum_1 18 rfl rfl)
theorem dX3_sum_41 : decode cX3_sum 41 = .ok (.aload_n 0, 1) := dk_42 (dk_at dksX3_sum_1 19 rfl rfl)
theorem dX3_sum_42 : decode cX3_sum 42 = .ok (.invokevirtual 178, 3) := dk_182 0 178 (dk_at dksX3_sum_1 20 rfl rfl)
theorem dX3_sum_45 : decode cX3_sum 45 = .ok (.invokevirtual 184, 3) := dk_182 0 184 (dk_at dksX3_sum_2 0 rfl rfl)
theorem dX3_sum_48 : decode cX3_sum 48 = .ok (.goto (-36), 3) := dk_167 255 220 (dk_at dksX3_sum_2 3 rfl rfl)
theorem dX3_sum_51 : decode cX3_sum 51 = .ok (.aload_n 1, 1) := dk_43 (dk_at dksX3_sum_2 6 rfl rfl)
theorem dX3_sum_52 : decode cX3_sum 52 = .ok (.invokevirtual 187, 3) := dk_182 0 187 (dk_at dksX3_sum_2 7 rfl rfl)
theorem dX3_sum_55 : decode cX3_sum 55 = .ok (.areturn, 1) := dk_176 (dk_at dksX3_sum_2 10 rfl rfl)
abbrev MX3_sum : jjM := (yX3_sum, cX3_sum, 3, (Option.some (Jvm.ClassFile.FieldType.object "SelfSorting$Sum")))
theorem npX3_sum : yX3_sum.cls ≠ "java/lang/invoke/MethodHandle" ∧ yX3_sum.cls ≠ "java/lang/invoke/VarHandle" ∧ (parseMethodDescriptor yX3_sum.desc).map (fun d => d.parameters.length) = some 0 := by decide +kernel
abbrev cX3_product : ByteArray := prog_14_method_18_code
def yX3_product : MethodName := ⟨RX3, "product", "()LSelfSorting$Sum;"⟩
def dkwX3_product_2 : List UInt8 := [182, 0, 184, 167, 255, 220, 43, 182, 0, 187, 176]
abbrev dktX3_product_2 : List UInt8 := dkwX3_product_2 ++ []
def dkwX3_product_1 : List UInt8 := [180, 0, 25, 16, 47, 160, 0, 24, 42, 180, 0, 25, 61, 42, 182, 0, 74, 43, 28, 42, 182, 0, 190]
abbrev dktX3_product_1 : List UInt8 := dkwX3_product_1 ++ dktX3_product_2
def dkwX3_product_0 : List UInt8 := [187, 0, 176, 89, 42, 182, 0, 190, 183, 0, 181, 76, 42, 180, 0, 25, 16, 42, 159, 0, 12, 42]
abbrev dktX3_product_0 : List UInt8 := dkwX3_product_0 ++ dktX3_product_1
theorem dksX3_product_0 : cX3_product.data.toList.drop 0 = dktX3_product_0 := by decide +kernel
theorem dksX3_product_1 : cX3_product.data.toList.drop 22 = dktX3_product_1 := dk_seg dksX3_product_0 22 rfl rfl
theorem dksX3_product_2 : cX3_product.data.toList.drop 45 = dktX3_product_2 := dk_seg dksX3_product_1 23 rfl rfl
theorem dX3_product_0 : decode cX3_product 0 = .ok (.new 176, 3) := dk_187 0 176 (dk_at dksX3_product_0 0 rfl rfl)
theorem dX3_product_3 : decode cX3_product 3 = .ok (.dup, 1) := dk_89 (dk_at dksX3_product_0 3 rfl rfl)
theorem dX3_product_4 : decode cX3_product 4 = .ok (.aload_n 0, 1) := dk_42 (dk_at dksX3_product_0 4 rfl rfl)
theorem dX3_product_5 : decode cX3_product 5 = .ok (.invokevirtual 190, 3) := dk_182 0 190 (dk_at dksX3_product_0 5 rfl rfl)
theorem dX3_product_8 : decode cX3_product 8 = .ok (.invokespecial 181, 3) := dk_183 0 181 (dk_at dksX3_product_0 8 rfl rfl)
theorem dX3_product_11 : decode cX3_product 11 = .ok (.astore_n 1, 1) := dk_76 (dk_at dksX3_product_0 11 rfl rfl)
theorem dX3_product_12 : decode cX3_product 12 = .ok (.aload_n 0, 1) := dk_42 (dk_at dksX3_product_0 12 rfl rfl)
theorem dX3_product_13 : decode cX3_product 13 = .ok (.getfield 25, 3) := dk_180 0 25 (dk_at dksX3_product_0 13 rfl rfl)
theorem dX3_product_16 : decode cX3_product 16 = .ok (.bipush 42, 2) := dk_16 42 (dk_at dksX3_product_0 16 rfl rfl)
theorem dX3_product_18 : decode cX3_product 18 = .ok (.if_icmp .eq 12, 3) := dk_159 0 12 (dk_at dksX3_product_0 18 rfl rfl)
theorem dX3_product_21 : decode cX3_product 21 = .ok (.aload_n 0, 1) := dk_42 (dk_at dksX3_product_0 21 rfl rfl)
theorem dX3_product_22 : decode cX3_product 22 = .ok (.getfield 25, 3) := dk_180 0 25 (dk_at dksX3_product_1 0 rfl rfl)
theorem dX3_product_25 : decode cX3_product 25 = .ok (.bipush 47, 2) := dk_16 47 (dk_at dksX3_product_1 3 rfl rfl)
theorem dX3_product_27 : decode cX3_product 27 = .ok (.if_icmp .ne 24, 3) := dk_160 0 24 (dk_at dksX3_product_1 5 rfl rfl)
theorem dX3_product_30 : decode cX3_product 30 = .ok (.aload_n 0, 1) := dk_42 (dk_at dksX3_product_1 8 rfl rfl)
theorem dX3_product_31 : decode cX3_product 31 = .ok (.getfield 25, 3) := dk_180 0 25 (dk_at dksX3_product_1 9 rfl rfl)
theorem dX3_product_34 : decode cX3_product 34 = .ok (.istore_n 2, 1) := dk_61 (dk_at dksX3_product_1 12 rfl rfl)
theorem dX3_product_35 : decode cX3_product 35 = .ok (.aload_n 0, 1) := dk_42 (dk_at dksX3_product_1 13 rfl rfl)
theorem dX3_product_36 : decode cX3_product 36 = .ok (.invokevirtual 74, 3) := dk_182 0 74 (dk_at dksX3_product_1 14 rfl rfl)
theorem dX3_product_39 : decode cX3_product 39 = .ok (.aload_n 1, 1) := dk_43 (dk_at dksX3_product_1 17 rfl rfl)
theorem dX3_product_40 : decode cX3_product 40 = .ok (.iload_n 2, 1) := dk_28 (dk_at dksX3_product_1 18 rfl rfl)
theorem dX3_product_41 : decode cX3_product 41 = .ok (.aload_n 0, 1) := dk_42 (dk_at dksX3_product_1 19 rfl rfl)
theorem dX3_product_42 : decode cX3_product 42 = .ok (.invokevirtual 190, 3) := dk_182 0 190 (dk_at dksX3_product_1 20 rfl rfl)
theorem dX3_product_45 : decode cX3_product 45 = .ok (.invokevirtual 184, 3) := dk_182 0 184 (dk_at dksX3_product_2 0 rfl rfl)
theorem dX3_product_48 : decode cX3_product 48 = .ok (.goto (-36), 3) := dk_167 255 220 (dk_at dksX3_product_2 3 rfl rfl)
theorem dX3_product_51 : decode cX3_product 51 = .ok (.aload_n 1, 1) := dk_43 (dk_at dksX3_product_2 6 rfl rfl)
theorem dX3_product_52 : decode cX3_product 52 = .ok (.invokevirtual 187, 3) := dk_182 0 187 (dk_at dksX3_product_2 7 rfl rfl)
theorem dX3_product_55 : decode cX3_product 55 = .ok (.areturn, 1) := dk_176 (dk_at dksX3_product_2 10 rfl rfl)
abbrev MX3_product : jjM := (yX3_product, cX3_product, 3, (Option.some (Jvm.ClassFile.FieldType.object "SelfSorting$Sum")))
theorem npX3_product : yX3_product.cls ≠ "java/lang/invoke/MethodHandle" ∧ yX3_product.cls ≠ "java/lang/invoke/VarHandle" ∧ (parseMethodDescriptor yX3_product.desc).map (fun d => d.parameters.length) = some 0 := by decide +kernel
abbrev cX3_one : ByteArray := prog_14_method_21_code
def yX3_one : MethodName := ⟨RX3, "one", "()LSelfSorting$Sum;"⟩
def dkwX3_one_5 : List UInt8 := [167, 0, 9, 42, 4, 182, 0, 70, 191, 42, 89, 180, 0, 77, 4, 100, 181, 0, 77, 44, 176]
abbrev dktX3_one_5 : List UInt8 := dkwX3_one_5 ++ []
def dkwX3_one_4 : List UInt8 := [180, 0, 25, 16, 45, 160, 0, 22, 42, 182, 0, 163, 187, 0, 206, 89, 42, 182, 0, 190, 183, 0, 208, 77]
abbrev dktX3_one_4 : List UInt8 := dkwX3_one_4 ++ dktX3_one_5
def dkwX3_one_3 : List UInt8 := [160, 0, 21, 42, 182, 0, 163, 42, 182, 0, 115, 77, 42, 16, 41, 182, 0, 104, 167, 0, 37, 42]
abbrev dktX3_one_3 : List UInt8 := dkwX3_one_3 ++ dktX3_one_4
def dkwX3_one_2 : List UInt8 := [182, 0, 70, 191, 42, 182, 0, 74, 187, 0, 203, 89, 27, 183, 0, 205, 176, 42, 180, 0, 25, 16, 40]
abbrev dktX3_one_2 : List UInt8 := dkwX3_one_2 ++ dktX3_one_3
def dkwX3_one_1 : List UInt8 := [183, 0, 195, 176, 42, 182, 0, 197, 60, 27, 2, 159, 0, 30, 42, 27, 182, 0, 200, 154, 0, 9, 42, 8]
abbrev dktX3_one_1 : List UInt8 := dkwX3_one_1 ++ dktX3_one_2
def dkwX3_one_0 : List UInt8 := [42, 180, 0, 25, 17, 1, 44, 160, 0, 19, 187, 0, 193, 89, 42, 3, 17, 39, 15, 182, 0, 119]
abbrev dktX3_one_0 : List UInt8 := dkwX3_one_0 ++ dktX3_one_1
theorem dksX3_one_0 : cX3_one.data.toList.drop 0 = dktX3_one_0 := by decide +kernel
theorem dksX3_one_1 : cX3_one.data.toList.drop 22 = dktX3_one_1 := dk_seg dksX3_one_0 22 rfl rfl
theorem dksX3_one_2 : cX3_one.data.toList.drop 46 = dktX3_one_2 := dk_seg dksX3_one_1 24 rfl rfl
theorem dksX3_one_3 : cX3_one.data.toList.drop 69 = dktX3_one_3 := dk_seg dksX3_one_2 23 rfl rfl
theorem dksX3_one_4 : cX3_one.data.toList.drop 91 = dktX3_one_4 := dk_seg dksX3_one_3 22 rfl rfl
theorem dksX3_one_5 : cX3_one.data.toList.drop 115 = dktX3_one_5 := dk_seg dksX3_one_4 24 rfl rfl
theorem dX3_one_0 : decode cX3_one 0 = .ok (.aload_n 0, 1) := dk_42 (dk_at dksX3_one_0 0 rfl rfl)
theorem dX3_one_1 : decode cX3_one 1 = .ok (.getfield 25, 3) := dk_180 0 25 (dk_at dksX3_one_0 1 rfl rfl)
theorem dX3_one_4 : decode cX3_one 4 = .ok (.sipush 300, 3) := dk_17 1 44 (dk_at dksX3_one_0 4 rfl rfl)
theorem dX3_one_7 : decode cX3_one 7 = .ok (.if_icmp .ne 19, 3) := dk_160 0 19 (dk_at dksX3_one_0 7 rfl rfl)
theorem dX3_one_10 : decode cX3_one 10 = .ok (.new 193, 3) := dk_187 0 193 (dk_at dksX3_one_0 10 rfl rfl)
theorem dX3_one_13 : decode cX3_one 13 = .ok (.dup, 1) := dk_89 (dk_at dksX3_one_0 13 rfl rfl)
theorem dX3_one_14 : decode cX3_one 14 = .ok (.aload_n 0, 1) := dk_42 (dk_at dksX3_one_0 14 rfl rfl)
theorem dX3_one_15 : decode cX3_one 15 = .ok (.iconst 0, 1) := dk_3 (dk_at dksX3_one_0 15 rfl rfl)
theorem dX3_one_16 : decode cX3_one 16 = .ok (.sipush 9999, 3) := dk_17 39 15 (dk_at dksX3_one_0 16 rfl rfl)
theorem dX3_one_19 : decode cX3_one 19 = .ok (.invokevirtual 119, 3) := dk_182 0 119 (dk_at dksX3_one_0 19 rfl rfl)
theorem dX3_one_22 : decode cX3_one 22 = .ok (.invokespecial 195, 3) := dk_183 0 195 (dk_at dksX3_one_1 0 rfl rfl)
theorem dX3_one_25 : decode cX3_one 25 = .ok (.areturn, 1) := dk_176 (dk_at dksX3_one_1 3 rfl rfl)
theorem dX3_one_26 : decode cX3_one 26 = .ok (.aload_n 0, 1) := dk_42 (dk_at dksX3_one_1 4 rfl rfl)
theorem dX3_one_27 : decode cX3_one 27 = .ok (.invokevirtual 197, 3) := dk_182 0 197 (dk_at dksX3_one_1 5 rfl rfl)
theorem dX3_one_30 : decode cX3_one 30 = .ok (.istore_n 1, 1) := dk_60 (dk_at dksX3_one_1 8 rfl rfl)
theorem dX3_one_31 : decode cX3_one 31 = .ok (.iload_n 1, 1) := dk_27 (dk_at dksX3_one_1 9 rfl rfl)
theorem dX3_one_32 : decode cX3_one 32 = .ok (.iconst (-1), 1) := dk_2 (dk_at dksX3_one_1 10 rfl rfl)
theorem dX3_one_33 : decode cX3_one 33 = .ok (.if_icmp .eq 30, 3) := dk_159 0 30 (dk_at dksX3_one_1 11 rfl rfl)
theorem dX3_one_36 : decode cX3_one 36 = .ok (.aload_n 0, 1) := dk_42 (dk_at dksX3_one_1 14 rfl rfl)
theorem dX3_one_37 : decode cX3_one 37 = .ok (.iload_n 1, 1) := dk_27 (dk_at dksX3_one_1 15 rfl rfl)
theorem dX3_one_38 : decode cX3_one 38 = .ok (.invokevirtual 200, 3) := dk_182 0 200 (dk_at dksX3_one_1 16 rfl rfl)
theorem dX3_one_41 : decode cX3_one 41 = .ok (.ifCond .ne 9, 3) := dk_154 0 9 (dk_at dksX3_one_1 19 rfl rfl)
theorem dX3_one_44 : decode cX3_one 44 = .ok (.aload_n 0, 1) := dk_42 (dk_at dksX3_one_1 22 rfl rfl)
theorem dX3_one_45 : decode cX3_one 45 = .ok (.iconst 5, 1) := dk_8 (dk_at dksX3_one_1 23 rfl rfl)
theorem dX3_one_46 : decode cX3_one 46 = .ok (.invokevirtual 70, 3) := dk_182 0 70 (dk_at dksX3_one_2 0 rfl rfl)
theorem dX3_one_49 : decode cX3_one 49 = .ok (.athrow, 1) := dk_191 (dk_at dksX3_one_2 3 rfl rfl)
theorem dX3_one_50 : decode cX3_one 50 = .ok (.aload_n 0, 1) := dk_42 (dk_at dksX3_one_2 4 rfl rfl)
theorem dX3_one_51 : decode cX3_one 51 = .ok (.invokevirtual 74, 3) := dk_182 0 74 (dk_at dksX3_one_2 5 rfl rfl)
theorem dX3_one_54 : decode cX3_one 54 = .ok (.new 203, 3) := dk_187 0 203 (dk_at dksX3_one_2 8 rfl rfl)
theorem dX3_one_57 : decode cX3_one 57 = .ok (.dup, 1) := dk_89 (dk_at dksX3_one_2 11 rfl rfl)
theorem dX3_one_58 : decode cX3_one 58 = .ok (.iload_n 1, 1) := dk_27 (dk_at dksX3_one_2 12 rfl rfl)
theorem dX3_one_59 : decode cX3_one 59 = .ok (.invokespecial 205, 3) := dk_183 0 205 (dk_at dksX3_one_2 13 rfl rfl)
theorem dX3_one_62 : decode cX3_one 62 = .ok (.areturn, 1) := dk_176 (dk_at dksX3_one_2 16 rfl rfl)
theorem dX3_one_63 : decode cX3_one 63 = .ok (.aload_n 0, 1) := dk_42 (dk_at dksX3_one_2 17 rfl rfl)
theorem dX3_one_64 : decode cX3_one 64 = .ok (.getfield 25, 3) := dk_180 0 25 (dk_at dksX3_one_2 18 rfl rfl)
theorem dX3_one_67 : decode cX3_one 67 = .ok (.bipush 40, 2) := dk_16 40 (dk_at dksX3_one_2 21 rfl rfl)
theorem dX3_one_69 : decode cX3_one 69 = .ok (.if_icmp .ne 21, 3) := dk_160 0 21 (dk_at dksX3_one_3 0 rfl rfl)
theorem dX3_one_72 : decode cX3_one 72 = .ok (.aload_n 0, 1) := dk_42 (dk_at dksX3_one_3 3 rfl rfl)
theorem dX3_one_73 : decode cX3_one 73 = .ok (.invokevirtual 163, 3) := dk_182 0 163 (dk_at dksX3_one_3 4 rfl rfl)
theorem dX3_one_76 : decode cX3_one 76 = .ok (.aload_n 0, 1) := dk_42 (dk_at dksX3_one_3 7 rfl rfl)
theorem dX3_one_77 : decode cX3_one 77 = .ok (.invokevirtual 115, 3) := dk_182 0 115 (dk_at dksX3_one_3 8 rfl rfl)
theorem dX3_one_80 : decode cX3_one 80 = .ok (.astore_n 2, 1) := dk_77 (dk_at dksX3_one_3 11 rfl rfl)
theorem dX3_one_81 : decode cX3_one 81 = .ok (.aload_n 0, 1) := dk_42 (dk_at dksX3_one_3 12 rfl rfl)
theorem dX3_one_82 : decode cX3_one 82 = .ok (.bipush 41, 2) := dk_16 41 (dk_at dksX3_one_3 13 rfl rfl)
theorem dX3_one_84 : decode cX3_one 84 = .ok (.invokevirtual 104, 3) := dk_182 0 104 (dk_at dksX3_one_3 15 rfl rfl)
theorem dX3_one_87 : decode cX3_one 87 = .ok (.goto 37, 3) := dk_167 0 37 (dk_at dksX3_one_3 18 rfl rfl)
theorem dX3_one_90 : decode cX3_one 90 = .ok (.aload_n 0, 1) := dk_42 (dk_at dksX3_one_3 21 rfl rfl)
theorem dX3_one_91 : decode cX3_one 91 = .ok (.getfield 25, 3) := dk_180 0 25 (dk_at dksX3_one_4 0 rfl rfl)
theorem dX3_one_94 : decode cX3_one 94 = .ok (.bipush 45, 2) := dk_16 45 (dk_at dksX3_one_4 3 rfl rfl)
theorem dX3_one_96 : decode cX3_one 96 = .ok (.if_icmp .ne 22, 3) := dk_160 0 22 (dk_at dksX3_one_4 5 rfl rfl)
theorem dX3_one_99 : decode cX3_one 99 = .ok (.aload_n 0, 1) := dk_42 (dk_at dksX3_one_4 8 rfl rfl)
theorem dX3_one_100 : decode cX3_one 100 = .ok (.invokevirtual 163, 3) := dk_182 0 163 (dk_at dksX3_one_4 9 rfl rfl)
theorem dX3_one_103 : decode cX3_one 103 = .ok (.new 206, 3) := dk_187 0 206 (dk_at dksX3_one_4 12 rfl rfl)
theorem dX3_one_106 : decode cX3_one 106 = .ok (.dup, 1) := dk_89 (dk_at dksX3_one_4 15 rfl rfl)
theorem dX3_one_107 : decode cX3_one 107 = .ok (.aload_n 0, 1) := dk_42 (dk_at dksX3_one_4 16 rfl rfl)
theorem dX3_one_108 : decode cX3_one 108 = .ok (.invokevirtual 190, 3) := dk_182 0 190 (dk_at dksX3_one_4 17 rfl rfl)
theorem dX3_one_111 : decode cX3_one 111 = .ok (.invokespecial 208, 3) := dk_183 0 208 (dk_at dksX3_one_4 20 rfl rfl)
theorem dX3_one_114 : decode cX3_one 114 = .ok (.astore_n 2, 1) := dk_77 (dk_at dksX3_one_4 23 rfl rfl)
theorem dX3_one_115 : decode cX3_one 115 = .ok (.goto 9, 3) := dk_167 0 9 (dk_at dksX3_one_5 0 rfl rfl)
theorem dX3_one_118 : decode cX3_one 118 = .ok (.aload_n 0, 1) := dk_42 (dk_at dksX3_one_5 3 rfl rfl)
theorem dX3_one_119 : decode cX3_one 119 = .ok (.iconst 1, 1) := dk_4 (dk_at dksX3_one_5 4 rfl rfl)
theorem dX3_one_120 : decode cX3_one 120 = .ok (.invokevirtual 70, 3) := dk_182 0 70 (dk_at dksX3_one_5 5 rfl rfl)
theorem dX3_one_123 : decode cX3_one 123 = .ok (.athrow, 1) := dk_191 (dk_at dksX3_one_5 8 rfl rfl)
theorem dX3_one_124 : decode cX3_one 124 = .ok (.aload_n 0, 1) := dk_42 (dk_at dksX3_one_5 9 rfl rfl)
theorem dX3_one_125 : decode cX3_one 125 = .ok (.dup, 1) := dk_89 (dk_at dksX3_one_5 10 rfl rfl)
theorem dX3_one_126 : decode cX3_one 126 = .ok (.getfield 77, 3) := dk_180 0 77 (dk_at dksX3_one_5 11 rfl rfl)
theorem dX3_one_129 : decode cX3_one 129 = .ok (.iconst 1, 1) := dk_4 (dk_at dksX3_one_5 14 rfl rfl)
theorem dX3_one_130 : decode cX3_one 130 = .ok (.isub, 1) := dk_100 (dk_at dksX3_one_5 15 rfl rfl)
theorem dX3_one_131 : decode cX3_one 131 = .ok (.putfield 77, 3) := dk_181 0 77 (dk_at dksX3_one_5 16 rfl rfl)
theorem dX3_one_134 : decode cX3_one 134 = .ok (.aload_n 2, 1) := dk_44 (dk_at dksX3_one_5 19 rfl rfl)
theorem dX3_one_135 : decode cX3_one 135 = .ok (.areturn, 1) := dk_176 (dk_at dksX3_one_5 20 rfl rfl)
abbrev MX3_one : jjM := (yX3_one, cX3_one, 3, (Option.some (Jvm.ClassFile.FieldType.object "SelfSorting$Sum")))
theorem npX3_one : yX3_one.cls ≠ "java/lang/invoke/MethodHandle" ∧ yX3_one.cls ≠ "java/lang/invoke/VarHandle" ∧ (parseMethodDescriptor yX3_one.desc).map (fun d => d.parameters.length) = some 0 := by decide +kernel
abbrev cX3_nameNow : ByteArray := prog_14_method_19_code
def yX3_nameNow : MethodName := ⟨RX3, "nameNow", "()I"⟩
def dkwX3_nameNow_3 : List UInt8 := [17, 0, 220, 100, 16, 6, 96, 167, 0, 4, 2, 172]
abbrev dktX3_nameNow_3 : List UInt8 := dkwX3_nameNow_3 ++ []
def dkwX3_nameNow_2 : List UInt8 := [180, 0, 25, 17, 0, 220, 161, 0, 27, 42, 180, 0, 25, 17, 0, 228, 163, 0, 17, 42, 180, 0, 25]
abbrev dktX3_nameNow_2 : List UInt8 := dkwX3_nameNow_2 ++ dktX3_nameNow_3
def dkwX3_nameNow_1 : List UInt8 := [42, 180, 0, 25, 17, 0, 219, 163, 0, 14, 42, 180, 0, 25, 17, 0, 215, 100, 167, 0, 38, 42]
abbrev dktX3_nameNow_1 : List UInt8 := dkwX3_nameNow_1 ++ dktX3_nameNow_2
def dkwX3_nameNow_0 : List UInt8 := [42, 180, 0, 25, 17, 0, 208, 160, 0, 7, 8, 167, 0, 69, 42, 180, 0, 25, 17, 0, 215, 161, 0, 24]
abbrev dktX3_nameNow_0 : List UInt8 := dkwX3_nameNow_0 ++ dktX3_nameNow_1
theorem dksX3_nameNow_0 : cX3_nameNow.data.toList.drop 0 = dktX3_nameNow_0 := by decide +kernel
theorem dksX3_nameNow_1 : cX3_nameNow.data.toList.drop 24 = dktX3_nameNow_1 := dk_seg dksX3_nameNow_0 24 rfl rfl
theorem dksX3_nameNow_2 : cX3_nameNow.data.toList.drop 46 = dktX3_nameNow_2 := dk_seg dksX3_nameNow_1 22 rfl rfl
theorem dksX3_nameNow_3 : cX3_nameNow.data.toList.drop 69 = dktX3_nameNow_3 := dk_seg dksX3_nameNow_2 23 rfl rfl
theorem dX3_nameNow_0 : decode cX3_nameNow 0 = .ok (.aload_n 0, 1) := dk_42 (dk_at dksX3_nameNow_0 0 rfl rfl)
theorem dX3_nameNow_1 : decode cX3_nameNow 1 = .ok (.getfield 25, 3) := dk_180 0 25 (dk_at dksX3_nameNow_0 1 rfl rfl)
theorem dX3_nameNow_4 : decode cX3_nameNow 4 = .ok (.sipush 208, 3) := dk_17 0 208 (dk_at dksX3_nameNow_0 4 rfl rfl)
theorem dX3_nameNow_7 : decode cX3_nameNow 7 = .ok (.if_icmp .ne 7, 3) := dk_160 0 7 (dk_at dksX3_nameNow_0 7 rfl rfl)
theorem dX3_nameNow_10 : decode cX3_nameNow 10 = .ok (.iconst 5, 1) := dk_8 (dk_at dksX3_nameNow_0 10 rfl rfl)
theorem dX3_nameNow_11 : decode cX3_nameNow 11 = .ok (.goto 69, 3) := dk_167 0 69 (dk_at dksX3_nameNow_0 11 rfl rfl)
theorem dX3_nameNow_14 : decode cX3_nameNow 14 = .ok (.aload_n 0, 1) := dk_42 (dk_at dksX3_nameNow_0 14 rfl rfl)
theorem dX3_nameNow_15 : decode cX3_nameNow 15 = .ok (.getfield 25, 3) := dk_180 0 25 (dk_at dksX3_nameNow_0 15 rfl rfl)
theorem dX3_nameNow_18 : decode cX3_nameNow 18 = .ok (.sipush 215, 3) := dk_17 0 215 (dk_at dksX3_nameNow_0 18 rfl rfl)
theorem dX3_nameNow_21 : decode cX3_nameNow 21 = .ok (.if_icmp .lt 24, 3) := dk_161 0 24 (dk_at dksX3_nameNow_0 21 rfl rfl)
theorem dX3_nameNow_24 : decode cX3_nameNow 24 = .ok (.aload_n 0, 1) := dk_42 (dk_at dksX3_nameNow_1 0 rfl rfl)
theorem dX3_nameNow_25 : decode cX3_nameNow 25 = .ok (.getfield 25, 3) := dk_180 0 25 (dk_at dksX3_nameNow_1 1 rfl rfl)
theorem dX3_nameNow_28 : decode cX3_nameNow 28 = .ok (.sipush 219, 3) := dk_17 0 219 (dk_at dksX3_nameNow_1 4 rfl rfl)
theorem dX3_nameNow_31 : decode cX3_nameNow 31 = .ok (.if_icmp .gt 14, 3) := dk_163 0 14 (dk_at dksX3_nameNow_1 7 rfl rfl)
theorem dX3_nameNow_34 : decode cX3_nameNow 34 = .ok (.aload_n 0, 1) := dk_42 (dk_at dksX3_nameNow_1 10 rfl rfl)
theorem dX3_nameNow_35 : decode cX3_nameNow 35 = .ok (.getfield 25, 3) := dk_180 0 25 (dk_at dksX3_nameNow_1 11 rfl rfl)
theorem dX3_nameNow_38 : decode cX3_nameNow 38 = .ok (.sipush 215, 3) := dk_17 0 215 (dk_at dksX3_nameNow_1 14 rfl rfl)
theorem dX3_nameNow_41 : decode cX3_nameNow 41 = .ok (.isub, 1) := dk_100 (dk_at dksX3_nameNow_1 17 rfl rfl)
theorem dX3_nameNow_42 : decode cX3_nameNow 42 = .ok (.goto 38, 3) := dk_167 0 38 (dk_at dksX3_nameNow_1 18 rfl rfl)
theorem dX3_nameNow_45 : decode cX3_nameNow 45 = .ok (.aload_n 0, 1) := dk_42 (dk_at dksX3_nameNow_1 21 rfl rfl)
theorem dX3_nameNow_46 : decode cX3_nameNow 46 = .ok (.getfield 25, 3) := dk_180 0 25 (dk_at dksX3_nameNow_2 0 rfl rfl)
theorem dX3_nameNow_49 : decode cX3_nameNow 49 = .ok (.sipush 220, 3) := dk_17 0 220 (dk_at dksX3_nameNow_2 3 rfl rfl)
theorem dX3_nameNow_52 : decode cX3_nameNow 52 = .ok (.if_icmp .lt 27, 3) := dk_161 0 27 (dk_at dksX3_nameNow_2 6 rfl rfl)
theorem dX3_nameNow_55 : decode cX3_nameNow 55 = .ok (.aload_n 0, 1) := dk_42 (dk_at dksX3_nameNow_2 9 rfl rfl)
theorem dX3_nameNow_56 : decode cX3_nameNow 56 = .ok (.getfield 25, 3) := dk_180 0 25 (dk_at dksX3_nameNow_2 10 rfl rfl)
theorem dX3_nameNow_59 : decode cX3_nameNow 59 = .ok (.sipush 228, 3) := dk_17 0 228 (dk_at dksX3_nameNow_2 13 rfl rfl)
theorem dX3_nameNow_62 : decode cX3_nameNow 62 = .ok (.if_icmp .gt 17, 3) := dk_163 0 17 (dk_at dksX3_nameNow_2 16 rfl rfl)
theorem dX3_nameNow_65 : decode cX3_nameNow 65 = .ok (.aload_n 0, 1) := dk_42 (dk_at dksX3_nameNow_2 19 rfl rfl)
theorem dX3_nameNow_66 : decode cX3_nameNow 66 = .ok (.getfield 25, 3) := dk_180 0 25 (dk_at dksX3_nameNow_2 20 rfl rfl)
theorem dX3_nameNow_69 : decode cX3_nameNow 69 = .ok (.sipush 220, 3) := dk_17 0 220 (dk_at dksX3_nameNow_3 0 rfl rfl)
theorem dX3_nameNow_72 : decode cX3_nameNow 72 = .ok (.isub, 1) := dk_100 (dk_at dksX3_nameNow_3 3 rfl rfl)
theorem dX3_nameNow_73 : decode cX3_nameNow 73 = .ok (.bipush 6, 2) := dk_16 6 (dk_at dksX3_nameNow_3 4 rfl rfl)
theorem dX3_nameNow_75 : decode cX3_nameNow 75 = .ok (.iadd, 1) := dk_96 (dk_at dksX3_nameNow_3 6 rfl rfl)
theorem dX3_nameNow_76 : decode cX3_nameNow 76 = .ok (.goto 4, 3) := dk_167 0 4 (dk_at dksX3_nameNow_3 7 rfl rfl)
theorem dX3_nameNow_79 : decode cX3_nameNow 79 = .ok (.iconst (-1), 1) := dk_2 (dk_at dksX3_nameNow_3 10 rfl rfl)
theorem dX3_nameNow_80 : decode cX3_nameNow 80 = .ok (.ireturn, 1) := dk_172 (dk_at dksX3_nameNow_3 11 rfl rfl)
abbrev MX3_nameNow : jjM := (yX3_nameNow, cX3_nameNow, 1, (Option.some Jvm.ClassFile.FieldType.int))
theorem npX3_nameNow : yX3_nameNow.cls ≠ "java/lang/invoke/MethodHandle" ∧ yX3_nameNow.cls ≠ "java/lang/invoke/VarHandle" ∧ (parseMethodDescriptor yX3_nameNow.desc).map (fun d => d.parameters.length) = some 0 := by decide +kernel
abbrev cX3_mayName : ByteArray := prog_14_method_20_code
def yX3_mayName : MethodName := ⟨RX3, "mayName", "(I)Z"⟩
def dkwX3_mayName_1 : List UInt8 := [167, 0, 13, 42, 180, 0, 83, 17, 0, 201, 160, 0, 7, 4, 167, 0, 4, 3, 172]
abbrev dktX3_mayName_1 : List UInt8 := dkwX3_mayName_1 ++ []
def dkwX3_mayName_0 : List UInt8 := [27, 16, 6, 161, 0, 32, 27, 16, 12, 162, 0, 16, 42, 180, 0, 83, 17, 0, 200, 160, 0, 20]
abbrev dktX3_mayName_0 : List UInt8 := dkwX3_mayName_0 ++ dktX3_mayName_1
theorem dksX3_mayName_0 : cX3_mayName.data.toList.drop 0 = dktX3_mayName_0 := by decide +kernel
theorem dksX3_mayName_1 : cX3_mayName.data.toList.drop 22 = dktX3_mayName_1 := dk_seg dksX3_mayName_0 22 rfl rfl
theorem dX3_mayName_0 : decode cX3_mayName 0 = .ok (.iload_n 1, 1) := dk_27 (dk_at dksX3_mayName_0 0 rfl rfl)
theorem dX3_mayName_1 : decode cX3_mayName 1 = .ok (.bipush 6, 2) := dk_16 6 (dk_at dksX3_mayName_0 1 rfl rfl)
theorem dX3_mayName_3 : decode cX3_mayName 3 = .ok (.if_icmp .lt 32, 3) := dk_161 0 32 (dk_at dksX3_mayName_0 3 rfl rfl)
theorem dX3_mayName_6 : decode cX3_mayName 6 = .ok (.iload_n 1, 1) := dk_27 (dk_at dksX3_mayName_0 6 rfl rfl)
theorem dX3_mayName_7 : decode cX3_mayName 7 = .ok (.bipush 12, 2) := dk_16 12 (dk_at dksX3_mayName_0 7 rfl rfl)
theorem dX3_mayName_9 : decode cX3_mayName 9 = .ok (.if_icmp .ge 16, 3) := dk_162 0 16 (dk_at dksX3_mayName_0 9 rfl rfl)
theorem dX3_mayName_12 : decode cX3_mayName 12 = .ok (.aload_n 0, 1) := dk_42 (dk_at dksX3_mayName_0 12 rfl rfl)
theorem dX3_mayName_13 : decode cX3_mayName 13 = .ok (.getfield 83, 3) := dk_180 0 83 (dk_at dksX3_mayName_0 13 rfl rfl)
theorem dX3_mayName_16 : decode cX3_mayName 16 = .ok (.sipush 200, 3) := dk_17 0 200 (dk_at dksX3_mayName_0 16 rfl rfl)
theorem dX3_mayName_19 : decode cX3_mayName 19 = .ok (.if_icmp .ne 20, 3) := dk_160 0 20 (dk_at dksX3_mayName_0 19 rfl rfl)
theorem dX3_mayName_22 : decode cX3_mayName 22 = .ok (.goto 13, 3) := dk_167 0 13 (dk_at dksX3_mayName_1 0 rfl rfl)
theorem dX3_mayName_25 : decode cX3_mayName 25 = .ok (.aload_n 0, 1) := dk_42 (dk_at dksX3_mayName_1 3 rfl rfl)
theorem dX3_mayName_26 : decode cX3_mayName 26 = .ok (.getfield 83, 3) := dk_180 0 83 (dk_at dksX3_mayName_1 4 rfl rfl)
theorem dX3_mayName_29 : decode cX3_mayName 29 = .ok (.sipush 201, 3) := dk_17 0 201 (dk_at dksX3_mayName_1 7 rfl rfl)
theorem dX3_mayName_32 : decode cX3_mayName 32 = .ok (.if_icmp .ne 7, 3) := dk_160 0 7 (dk_at dksX3_mayName_1 10 rfl rfl)
theorem dX3_mayName_35 : decode cX3_mayName 35 = .ok (.iconst 1, 1) := dk_4 (dk_at dksX3_mayName_1 13 rfl rfl)
theorem dX3_mayName_36 : decode cX3_mayName 36 = .ok (.goto 4, 3) := dk_167 0 4 (dk_at dksX3_mayName_1 14 rfl rfl)
theorem dX3_mayName_39 : decode cX3_mayName 39 = .ok (.iconst 0, 1) := dk_3 (dk_at dksX3_mayName_1 17 rfl rfl)
theorem dX3_mayName_40 : decode cX3_mayName 40 = .ok (.ireturn, 1) := dk_172 (dk_at dksX3_mayName_1 18 rfl rfl)
abbrev MX3_mayName : jjM := (yX3_mayName, cX3_mayName, 2, (Option.some Jvm.ClassFile.FieldType.boolean))
theorem npX3_mayName : yX3_mayName.cls ≠ "java/lang/invoke/MethodHandle" ∧ yX3_mayName.cls ≠ "java/lang/invoke/VarHandle" ∧ (parseMethodDescriptor yX3_mayName.desc).map (fun d => d.parameters.length) = some 1 := by decide +kernel
abbrev cX3_want : ByteArray := prog_14_method_7_code
def yX3_want : MethodName := ⟨RX3, "want", "(I)V"⟩
def dkwX3_want_0 : List UInt8 := [42, 180, 0, 25, 27, 159, 0, 9, 42, 4, 182, 0, 70, 191, 42, 182, 0, 74, 177]
abbrev dktX3_want_0 : List UInt8 := dkwX3_want_0 ++ []
theorem dksX3_want_0 : cX3_want.data.toList.drop 0 = dktX3_want_0 := by decide +kernel
theorem dX3_want_0 : decode cX3_want 0 = .ok (.aload_n 0, 1) := dk_42 (dk_at dksX3_want_0 0 rfl rfl)
theorem dX3_want_1 : decode cX3_want 1 = .ok (.getfield 25, 3) := dk_180 0 25 (dk_at dksX3_want_0 1 rfl rfl)
theorem dX3_want_4 : decode cX3_want 4 = .ok (.iload_n 1, 1) := dk_27 (dk_at dksX3_want_0 4 rfl rfl)
theorem dX3_want_5 : decode cX3_want 5 = .ok (.if_icmp .eq 9, 3) := dk_159 0 9 (dk_at dksX3_want_0 5 rfl rfl)
theorem dX3_want_8 : decode cX3_want 8 = .ok (.aload_n 0, 1) := dk_42 (dk_at dksX3_want_0 8 rfl rfl)
theorem dX3_want_9 : decode cX3_want 9 = .ok (.iconst 1, 1) := dk_4 (dk_at dksX3_want_0 9 rfl rfl)
theorem dX3_want_10 : decode cX3_want 10 = .ok (.invokevirtual 70, 3) := dk_182 0 70 (dk_at dksX3_want_0 10 rfl rfl)
theorem dX3_want_13 : decode cX3_want 13 = .ok (.athrow, 1) := dk_191 (dk_at dksX3_want_0 13 rfl rfl)
theorem dX3_want_14 : decode cX3_want 14 = .ok (.aload_n 0, 1) := dk_42 (dk_at dksX3_want_0 14 rfl rfl)
theorem dX3_want_15 : decode cX3_want 15 = .ok (.invokevirtual 74, 3) := dk_182 0 74 (dk_at dksX3_want_0 15 rfl rfl)
theorem dX3_want_18 : decode cX3_want 18 = .ok (.return_, 1) := dk_177 (dk_at dksX3_want_0 18 rfl rfl)
abbrev MX3_want : jjM := (yX3_want, cX3_want, 2, (Option.none : Option Jvm.ClassFile.FieldType))
theorem npX3_want : yX3_want.cls ≠ "java/lang/invoke/MethodHandle" ∧ yX3_want.cls ≠ "java/lang/invoke/VarHandle" ∧ (parseMethodDescriptor yX3_want.desc).map (fun d => d.parameters.length) = some 1 := by decide +kernel
abbrev cX3_doing : ByteArray := prog_14_method_13_code
def yX3_doing : MethodName := ⟨RX3, "doing", "(I)LSelfSorting$Doing;"⟩
def dkwX3_doing_7 : List UInt8 := [183, 0, 140, 176, 187, 0, 138, 89, 28, 2, 2, 2, 27, 183, 0, 140, 176]
abbrev dktX3_doing_7 : List UInt8 := dkwX3_doing_7 ++ []
def dkwX3_doing_6 : List UInt8 := [42, 17, 0, 210, 182, 0, 104, 187, 0, 138, 89, 28, 29, 21, 4, 42, 3, 16, 9, 182, 0, 119, 27]
abbrev dktX3_doing_6 : List UInt8 := dkwX3_doing_6 ++ dktX3_doing_7
def dkwX3_doing_5 : List UInt8 := [176, 42, 3, 16, 9, 182, 0, 119, 62, 42, 17, 0, 211, 182, 0, 104, 42, 3, 5, 182, 0, 119, 54, 4]
abbrev dktX3_doing_5 : List UInt8 := dkwX3_doing_5 ++ dktX3_doing_6
def dkwX3_doing_4 : List UInt8 := [2, 27, 183, 0, 140, 176, 187, 0, 138, 89, 28, 42, 3, 16, 9, 182, 0, 119, 2, 2, 27, 183, 0, 140]
abbrev dktX3_doing_4 : List UInt8 := dkwX3_doing_4 ++ dktX3_doing_5
def dkwX3_doing_3 : List UInt8 := [182, 0, 119, 62, 42, 17, 0, 210, 182, 0, 104, 187, 0, 138, 89, 28, 29, 42, 3, 16, 9, 182, 0, 119]
abbrev dktX3_doing_3 : List UInt8 := dkwX3_doing_3 ++ dktX3_doing_4
def dkwX3_doing_2 : List UInt8 := [187, 0, 138, 89, 28, 42, 4, 16, 99, 182, 0, 119, 2, 2, 27, 183, 0, 140, 176, 42, 3, 5]
abbrev dktX3_doing_2 : List UInt8 := dkwX3_doing_2 ++ dktX3_doing_3
def dkwX3_doing_1 : List UInt8 := [170, 0, 0, 0, 0, 151, 0, 0, 0, 204, 0, 0, 0, 207, 0, 0, 0, 30, 0, 0, 0, 49, 0, 0, 0, 82, 0, 0, 0, 101]
abbrev dktX3_doing_1 : List UInt8 := dkwX3_doing_1 ++ dktX3_doing_2
def dkwX3_doing_0 : List UInt8 := [42, 180, 0, 83, 61, 28]
abbrev dktX3_doing_0 : List UInt8 := dkwX3_doing_0 ++ dktX3_doing_1
theorem dksX3_doing_0 : cX3_doing.data.toList.drop 0 = dktX3_doing_0 := by decide +kernel
theorem dksX3_doing_1 : cX3_doing.data.toList.drop 6 = dktX3_doing_1 := dk_seg dksX3_doing_0 6 rfl rfl
theorem dksX3_doing_2 : cX3_doing.data.toList.drop 36 = dktX3_doing_2 := dk_seg dksX3_doing_1 30 rfl rfl
theorem dksX3_doing_3 : cX3_doing.data.toList.drop 58 = dktX3_doing_3 := dk_seg dksX3_doing_2 22 rfl rfl
theorem dksX3_doing_4 : cX3_doing.data.toList.drop 82 = dktX3_doing_4 := dk_seg dksX3_doing_3 24 rfl rfl
theorem dksX3_doing_5 : cX3_doing.data.toList.drop 106 = dktX3_doing_5 := dk_seg dksX3_doing_4 24 rfl rfl
theorem dksX3_doing_6 : cX3_doing.data.toList.drop 130 = dktX3_doing_6 := dk_seg dksX3_doing_5 24 rfl rfl
theorem dksX3_doing_7 : cX3_doing.data.toList.drop 153 = dktX3_doing_7 := dk_seg dksX3_doing_6 23 rfl rfl
theorem dX3_doing_0 : decode cX3_doing 0 = .ok (.aload_n 0, 1) := dk_42 (dk_at dksX3_doing_0 0 rfl rfl)
theorem dX3_doing_1 : decode cX3_doing 1 = .ok (.getfield 83, 3) := dk_180 0 83 (dk_at dksX3_doing_0 1 rfl rfl)
theorem dX3_doing_4 : decode cX3_doing 4 = .ok (.istore_n 2, 1) := dk_61 (dk_at dksX3_doing_0 4 rfl rfl)
theorem dX3_doing_5 : decode cX3_doing 5 = .ok (.iload_n 2, 1) := dk_28 (dk_at dksX3_doing_0 5 rfl rfl)
theorem dX3_doing_6 : decode cX3_doing 6 = .ok (.tableswitch 151 204 207 #[30, 49, 82, 101], 30) := by decide +kernel
theorem dX3_doing_36 : decode cX3_doing 36 = .ok (.new 138, 3) := dk_187 0 138 (dk_at dksX3_doing_2 0 rfl rfl)
theorem dX3_doing_39 : decode cX3_doing 39 = .ok (.dup, 1) := dk_89 (dk_at dksX3_doing_2 3 rfl rfl)
theorem dX3_doing_40 : decode cX3_doing 40 = .ok (.iload_n 2, 1) := dk_28 (dk_at dksX3_doing_2 4 rfl rfl)
theorem dX3_doing_41 : decode cX3_doing 41 = .ok (.aload_n 0, 1) := dk_42 (dk_at dksX3_doing_2 5 rfl rfl)
theorem dX3_doing_42 : decode cX3_doing 42 = .ok (.iconst 1, 1) := dk_4 (dk_at dksX3_doing_2 6 rfl rfl)
theorem dX3_doing_43 : decode cX3_doing 43 = .ok (.bipush 99, 2) := dk_16 99 (dk_at dksX3_doing_2 7 rfl rfl)
theorem dX3_doing_45 : decode cX3_doing 45 = .ok (.invokevirtual 119, 3) := dk_182 0 119 (dk_at dksX3_doing_2 9 rfl rfl)
theorem dX3_doing_48 : decode cX3_doing 48 = .ok (.iconst (-1), 1) := dk_2 (dk_at dksX3_doing_2 12 rfl rfl)
theorem dX3_doing_49 : decode cX3_doing 49 = .ok (.iconst (-1), 1) := dk_2 (dk_at dksX3_doing_2 13 rfl rfl)
theorem dX3_doing_50 : decode cX3_doing 50 = .ok (.iload_n 1, 1) := dk_27 (dk_at dksX3_doing_2 14 rfl rfl)
theorem dX3_doing_51 : decode cX3_doing 51 = .ok (.invokespecial 140, 3) := dk_183 0 140 (dk_at dksX3_doing_2 15 rfl rfl)
theorem dX3_doing_54 : decode cX3_doing 54 = .ok (.areturn, 1) := dk_176 (dk_at dksX3_doing_2 18 rfl rfl)
theorem dX3_doing_55 : decode cX3_doing 55 = .ok (.aload_n 0, 1) := dk_42 (dk_at dksX3_doing_2 19 rfl rfl)
theorem dX3_doing_56 : decode cX3_doing 56 = .ok (.iconst 0, 1) := dk_3 (dk_at dksX3_doing_2 20 rfl rfl)
theorem dX3_doing_57 : decode cX3_doing 57 = .ok (.iconst 2, 1) := dk_5 (dk_at dksX3_doing_2 21 rfl rfl)
theorem dX3_doing_58 : decode cX3_doing 58 = .ok (.invokevirtual 119, 3) := dk_182 0 119 (dk_at dksX3_doing_3 0 rfl rfl)
theorem dX3_doing_61 : decode cX3_doing 61 = .ok (.istore_n 3, 1) := dk_62 (dk_at dksX3_doing_3 3 rfl rfl)
theorem dX3_doing_62 : decode cX3_doing 62 = .ok (.aload_n 0, 1) := dk_42 (dk_at dksX3_doing_3 4 rfl rfl)
theorem dX3_doing_63 : decode cX3_doing 63 = .ok (.sipush 210, 3) := dk_17 0 210 (dk_at dksX3_doing_3 5 rfl rfl)
theorem dX3_doing_66 : decode cX3_doing 66 = .ok (.invokevirtual 104, 3) := dk_182 0 104 (dk_at dksX3_doing_3 8 rfl rfl)
theorem dX3_doing_69 : decode cX3_doing 69 = .ok (.new 138, 3) := dk_187 0 138 (dk_at dksX3_doing_3 11 rfl rfl)
theorem dX3_doing_72 : decode cX3_doing 72 = .ok (.dup, 1) := dk_89 (dk_at dksX3_doing_3 14 rfl rfl)
theorem dX3_doing_73 : decode cX3_doing 73 = .ok (.iload_n 2, 1) := dk_28 (dk_at dksX3_doing_3 15 rfl rfl)
theorem dX3_doing_74 : decode cX3_doing 74 = .ok (.iload_n 3, 1) := dk_29 (dk_at dksX3_doing_3 16 rfl rfl)
theorem dX3_doing_75 : decode cX3_doing 75 = .ok (.aload_n 0, 1) := dk_42 (dk_at dksX3_doing_3 17 rfl rfl)
theorem dX3_doing_76 : decode cX3_doing 76 = .ok (.iconst 0, 1) := dk_3 (dk_at dksX3_doing_3 18 rfl rfl)
theorem dX3_doing_77 : decode cX3_doing 77 = .ok (.bipush 9, 2) := dk_16 9 (dk_at dksX3_doing_3 19 rfl rfl)
theorem dX3_doing_79 : decode cX3_doing 79 = .ok (.invokevirtual 119, 3) := dk_182 0 119 (dk_at dksX3_doing_3 21 rfl rfl)
theorem dX3_doing_82 : decode cX3_doing 82 = .ok (.iconst (-1), 1) := dk_2 (dk_at dksX3_doing_4 0 rfl rfl)
theorem dX3_doing_83 : decode cX3_doing 83 = .ok (.iload_n 1, 1) := dk_27 (dk_at dksX3_doing_4 1 rfl rfl)
theorem dX3_doing_84 : decode cX3_doing 84 = .ok (.invokespecial 140, 3) := dk_183 0 140 (dk_at dksX3_doing_4 2 rfl rfl)
theorem dX3_doing_87 : decode cX3_doing 87 = .ok (.areturn, 1) := dk_176 (dk_at dksX3_doing_4 5 rfl rfl)
theorem dX3_doing_88 : decode cX3_doing 88 = .ok (.new 138, 3) := dk_187 0 138 (dk_at dksX3_doing_4 6 rfl rfl)
theorem dX3_doing_91 : decode cX3_doing 91 = .ok (.dup, 1) := dk_89 (dk_at dksX3_doing_4 9 rfl rfl)
theorem dX3_doing_92 : decode cX3_doing 92 = .ok (.iload_n 2, 1) := dk_28 (dk_at dksX3_doing_4 10 rfl rfl)
theorem dX3_doing_93 : decode cX3_doing 93 = .ok (.aload_n 0, 1) := dk_42 (dk_at dksX3_doing_4 11 rfl rfl)
theorem dX3_doing_94 : decode cX3_doing 94 = .ok (.iconst 0, 1) := dk_3 (dk_at dksX3_doing_4 12 rfl rfl)
theorem dX3_doing_95 : decode cX3_doing 95 = .ok (.bipush 9, 2) := dk_16 9 (dk_at dksX3_doing_4 13 rfl rfl)
theorem dX3_doing_97 : decode cX3_doing 97 = .ok (.invokevirtual 119, 3) := dk_182 0 119 (dk_at dksX3_doing_4 15 rfl rfl)
theorem dX3_doing_100 : decode cX3_doing 100 = .ok (.iconst (-1), 1) := dk_2 (dk_at dksX3_doing_4 18 rfl rfl)
theorem dX3_doing_101 : decode cX3_doing 101 = .ok (.iconst (-1), 1) := dk_2 (dk_at dksX3_doing_4 19 rfl rfl)
theorem dX3_doing_102 : decode cX3_doing 102 = .ok (.iload_n 1, 1) := dk_27 (dk_at dksX3_doing_4 20 rfl rfl)
theorem dX3_doing_103 : decode cX3_doing 103 = .ok (.invokespecial 140, 3) := dk_183 0 140 (dk_at dksX3_doing_4 21 rfl rfl)
theorem dX3_doing_106 : decode cX3_doing 106 = .ok (.areturn, 1) := dk_176 (dk_at dksX3_doing_5 0 rfl rfl)
theorem dX3_doing_107 : decode cX3_doing 107 = .ok (.aload_n 0, 1) := dk_42 (dk_at dksX3_doing_5 1 rfl rfl)
theorem dX3_doing_108 : decode cX3_doing 108 = .ok (.iconst 0, 1) := dk_3 (dk_at dksX3_doing_5 2 rfl rfl)
theorem dX3_doing_109 : decode cX3_doing 109 = .ok (.bipush 9, 2) := dk_16 9 (dk_at dksX3_doing_5 3 rfl rfl)
theorem dX3_doing_111 : decode cX3_doing 111 = .ok (.invokevirtual 119, 3) := dk_182 0 119 (dk_at dksX3_doing_5 5 rfl rfl)
theorem dX3_doing_114 : decode cX3_doing 114 = .ok (.istore_n 3, 1) := dk_62 (dk_at dksX3_doing_5 8 rfl rfl)
theorem dX3_doing_115 : decode cX3_doing 115 = .ok (.aload_n 0, 1) := dk_42 (dk_at dksX3_doing_5 9 rfl rfl)
theorem dX3_doing_116 : decode cX3_doing 116 = .ok (.sipush 211, 3) := dk_17 0 211 (dk_at dksX3_doing_5 10 rfl rfl)
theorem dX3_doing_119 : decode cX3_doing 119 = .ok (.invokevirtual 104, 3) := dk_182 0 104 (dk_at dksX3_doing_5 13 rfl rfl)
theorem dX3_doing_122 : decode cX3_doing 122 = .ok (.aload_n 0, 1) := dk_42 (dk_at dksX3_doing_5 16 rfl rfl)
theorem dX3_doing_123 : decode cX3_doing 123 = .ok (.iconst 0, 1) := dk_3 (dk_at dksX3_doing_5 17 rfl rfl)
theorem dX3_doing_124 : decode cX3_doing 124 = .ok (.iconst 2, 1) := dk_5 (dk_at dksX3_doing_5 18 rfl rfl)
theorem dX3_doing_125 : decode cX3_doing 125 = .ok (.invokevirtual 119, 3) := dk_182 0 119 (dk_at dksX3_doing_5 19 rfl rfl)
theorem dX3_doing_128 : decode cX3_doing 128 = .ok (.istore 4, 2) := dk_54 4 (dk_at dksX3_doing_5 22 rfl rfl)
theorem dX3_doing_130 : decode cX3_doing 130 = .ok (.aload_n 0, 1) := dk_42 (dk_at dksX3_doing_6 0 rfl rfl)
theorem dX3_doing_131 : decode cX3_doing 131 = .ok (.sipush 210, 3) := dk_17 0 210 (dk_at dksX3_doing_6 1 rfl rfl)
theorem dX3_doing_134 : decode cX3_doing 134 = .ok (.invokevirtual 104, 3) := dk_182 0 104 (dk_at dksX3_doing_6 4 rfl rfl)
theorem dX3_doing_137 : decode cX3_doing 137 = .ok (.new 138, 3) := dk_187 0 138 (dk_at dksX3_doing_6 7 rfl rfl)
theorem dX3_doing_140 : decode cX3_doing 140 = .ok (.dup, 1) := dk_89 (dk_at dksX3_doing_6 10 rfl rfl)
theorem dX3_doing_141 : decode cX3_doing 141 = .ok (.iload_n 2, 1) := dk_28 (dk_at dksX3_doing_6 11 rfl rfl)
theorem dX3_doing_142 : decode cX3_doing 142 = .ok (.iload_n 3, 1) := dk_29 (dk_at dksX3_doing_6 12 rfl rfl)
theorem dX3_doing_143 : decode cX3_doing 143 = .ok (.iload 4, 2) := dk_21 4 (dk_at dksX3_doing_6 13 rfl rfl)
theorem dX3_doing_145 : decode cX3_doing 145 = .ok (.aload_n 0, 1) := dk_42 (dk_at dksX3_doing_6 15 rfl rfl)
theorem dX3_doing_146 : decode cX3_doing 146 = .ok (.iconst 0, 1) := dk_3 (dk_at dksX3_doing_6 16 rfl rfl)
theorem dX3_doing_147 : decode cX3_doing 147 = .ok (.bipush 9, 2) := dk_16 9 (dk_at dksX3_doing_6 17 rfl rfl)
theorem dX3_doing_149 : decode cX3_doing 149 = .ok (.invokevirtual 119, 3) := dk_182 0 119 (dk_at dksX3_doing_6 19 rfl rfl)
theorem dX3_doing_152 : decode cX3_doing 152 = .ok (.iload_n 1, 1) := dk_27 (dk_at dksX3_doing_6 22 rfl rfl)
theorem dX3_doing_153 : decode cX3_doing 153 = .ok (.invokespecial 140, 3) := dk_183 0 140 (dk_at dksX3_doing_7 0 rfl rfl)
theorem dX3_doing_156 : decode cX3_doing 156 = .ok (.areturn, 1) := dk_176 (dk_at dksX3_doing_7 3 rfl rfl)
theorem dX3_doing_157 : decode cX3_doing 157 = .ok (.new 138, 3) := dk_187 0 138 (dk_at dksX3_doing_7 4 rfl rfl)
theorem dX3_doing_160 : decode cX3_doing 160 = .ok (.dup, 1) := dk_89 (dk_at dksX3_doing_7 7 rfl rfl)
theorem dX3_doing_161 : decode cX3_doing 161 = .ok (.iload_n 2, 1) := dk_28 (dk_at dksX3_doing_7 8 rfl rfl)
theorem dX3_doing_162 : decode cX3_doing 162 = .ok (.iconst (-1), 1) := dk_2 (dk_at dksX3_doing_7 9 rfl rfl)
theorem dX3_doing_163 : decode cX3_doing 163 = .ok (.iconst (-1), 1) := dk_2 (dk_at dksX3_doing_7 10 rfl rfl)
theorem dX3_doing_164 : decode cX3_doing 164 = .ok (.iconst (-1), 1) := dk_2 (dk_at dksX3_doing_7 11 rfl rfl)
theorem dX3_doing_165 : decode cX3_doing 165 = .ok (.iload_n 1, 1) := dk_27 (dk_at dksX3_doing_7 12 rfl rfl)
theorem dX3_doing_166 : decode cX3_doing 166 = .ok (.invokespecial 140, 3) := dk_183 0 140 (dk_at dksX3_doing_7 13 rfl rfl)
theorem dX3_doing_169 : decode cX3_doing 169 = .ok (.areturn, 1) := dk_176 (dk_at dksX3_doing_7 16 rfl rfl)
abbrev MX3_doing : jjM := (yX3_doing, cX3_doing, 5, (Option.some (Jvm.ClassFile.FieldType.object "SelfSorting$Doing")))
theorem npX3_doing : yX3_doing.cls ≠ "java/lang/invoke/MethodHandle" ∧ yX3_doing.cls ≠ "java/lang/invoke/VarHandle" ∧ (parseMethodDescriptor yX3_doing.desc).map (fun d => d.parameters.length) = some 1 := by decide +kernel
abbrev cX4_init : ByteArray := prog_13_method_1_code
def yX4_init : MethodName := ⟨RX4, "<init>", "()V"⟩
def dkwX4_init_1 : List UInt8 := [177]
abbrev dktX4_init_1 : List UInt8 := dkwX4_init_1 ++ []
def dkwX4_init_0 : List UInt8 := [42, 183, 0, 3, 42, 16, 6, 189, 0, 9, 181, 0, 11, 42, 187, 0, 17, 89, 183, 0, 19, 181, 0, 20]
abbrev dktX4_init_0 : List UInt8 := dkwX4_init_0 ++ dktX4_init_1
theorem dksX4_init_0 : cX4_init.data.toList.drop 0 = dktX4_init_0 := by decide +kernel
theorem dksX4_init_1 : cX4_init.data.toList.drop 24 = dktX4_init_1 := dk_seg dksX4_init_0 24 rfl rfl
theorem dX4_init_0 : decode cX4_init 0 = .ok (.aload_n 0, 1) := dk_42 (dk_at dksX4_init_0 0 rfl rfl)
theorem dX4_init_1 : decode cX4_init 1 = .ok (.invokespecial 3, 3) := dk_183 0 3 (dk_at dksX4_init_0 1 rfl rfl)
theorem dX4_init_4 : decode cX4_init 4 = .ok (.aload_n 0, 1) := dk_42 (dk_at dksX4_init_0 4 rfl rfl)
theorem dX4_init_5 : decode cX4_init 5 = .ok (.bipush 6, 2) := dk_16 6 (dk_at dksX4_init_0 5 rfl rfl)
theorem dX4_init_7 : decode cX4_init 7 = .ok (.anewarray 9, 3) := dk_189 0 9 (dk_at dksX4_init_0 7 rfl rfl)
theorem dX4_init_10 : decode cX4_init 10 = .ok (.putfield 11, 3) := dk_181 0 11 (dk_at dksX4_init_0 10 rfl rfl)
theorem dX4_init_13 : decode cX4_init 13 = .ok (.aload_n 0, 1) := dk_42 (dk_at dksX4_init_0 13 rfl rfl)
theorem dX4_init_14 : decode cX4_init 14 = .ok (.new 17, 3) := dk_187 0 17 (dk_at dksX4_init_0 14 rfl rfl)
theorem dX4_init_17 : decode cX4_init 17 = .ok (.dup, 1) := dk_89 (dk_at dksX4_init_0 17 rfl rfl)
theorem dX4_init_18 : decode cX4_init 18 = .ok (.invokespecial 19, 3) := dk_183 0 19 (dk_at dksX4_init_0 18 rfl rfl)
theorem dX4_init_21 : decode cX4_init 21 = .ok (.putfield 20, 3) := dk_181 0 20 (dk_at dksX4_init_0 21 rfl rfl)
theorem dX4_init_24 : decode cX4_init 24 = .ok (.return_, 1) := dk_177 (dk_at dksX4_init_1 0 rfl rfl)
abbrev MX4_init : jjM := (yX4_init, cX4_init, 1, (Option.none : Option Jvm.ClassFile.FieldType))
theorem npX4_init : yX4_init.cls ≠ "java/lang/invoke/MethodHandle" ∧ yX4_init.cls ≠ "java/lang/invoke/VarHandle" ∧ (parseMethodDescriptor yX4_init.desc).map (fun d => d.parameters.length) = some 0 := by decide +kernel
abbrev cX5_init : ByteArray := prog_15_method_1_code
def yX5_init : MethodName := ⟨RX5, "<init>", "(II)V"⟩
def dkwX5_init_0 : List UInt8 := [42, 183, 0, 1, 42, 27, 181, 0, 7, 42, 28, 181, 0, 13, 177]
abbrev dktX5_init_0 : List UInt8 := dkwX5_init_0 ++ []
theorem dksX5_init_0 : cX5_init.data.toList.drop 0 = dktX5_init_0 := by decide +kernel
theorem dX5_init_0 : decode cX5_init 0 = .ok (.aload_n 0, 1) := dk_42 (dk_at dksX5_init_0 0 rfl rfl)
theorem dX5_init_1 : decode cX5_init 1 = .ok (.invokespecial 1, 3) := dk_183 0 1 (dk_at dksX5_init_0 1 rfl rfl)
theorem dX5_init_4 : decode cX5_init 4 = .ok (.aload_n 0, 1) := dk_42 (dk_at dksX5_init_0 4 rfl rfl)
theorem dX5_init_5 : decode cX5_init 5 = .ok (.iload_n 1, 1) := dk_27 (dk_at dksX5_init_0 5 rfl rfl)
theorem dX5_init_6 : decode cX5_init 6 = .ok (.putfield 7, 3) := dk_181 0 7 (dk_at dksX5_init_0 6 rfl rfl)
theorem dX5_init_9 : decode cX5_init 9 = .ok (.aload_n 0, 1) := dk_42 (dk_at dksX5_init_0 9 rfl rfl)
theorem dX5_init_10 : decode cX5_init 10 = .ok (.iload_n 2, 1) := dk_28 (dk_at dksX5_init_0 10 rfl rfl)
theorem dX5_init_11 : decode cX5_init 11 = .ok (.putfield 13, 3) := dk_181 0 13 (dk_at dksX5_init_0 11 rfl rfl)
theorem dX5_init_14 : decode cX5_init 14 = .ok (.return_, 1) := dk_177 (dk_at dksX5_init_0 14 rfl rfl)
abbrev MX5_init : jjM := (yX5_init, cX5_init, 3, (Option.none : Option Jvm.ClassFile.FieldType))
theorem npX5_init : yX5_init.cls ≠ "java/lang/invoke/MethodHandle" ∧ yX5_init.cls ≠ "java/lang/invoke/VarHandle" ∧ (parseMethodDescriptor yX5_init.desc).map (fun d => d.parameters.length) = some 2 := by decide +kernel
abbrev cX6_init : ByteArray := prog_9_method_1_code
def yX6_init : MethodName := ⟨RX6, "<init>", "(LSelfSorting$Asked;)V"⟩
def dkwX6_init_0 : List UInt8 := [42, 183, 0, 1, 42, 43, 181, 0, 7, 177]
abbrev dktX6_init_0 : List UInt8 := dkwX6_init_0 ++ []
theorem dksX6_init_0 : cX6_init.data.toList.drop 0 = dktX6_init_0 := by decide +kernel
theorem dX6_init_0 : decode cX6_init 0 = .ok (.aload_n 0, 1) := dk_42 (dk_at dksX6_init_0 0 rfl rfl)
theorem dX6_init_1 : decode cX6_init 1 = .ok (.invokespecial 1, 3) := dk_183 0 1 (dk_at dksX6_init_0 1 rfl rfl)
theorem dX6_init_4 : decode cX6_init 4 = .ok (.aload_n 0, 1) := dk_42 (dk_at dksX6_init_0 4 rfl rfl)
theorem dX6_init_5 : decode cX6_init 5 = .ok (.aload_n 1, 1) := dk_43 (dk_at dksX6_init_0 5 rfl rfl)
theorem dX6_init_6 : decode cX6_init 6 = .ok (.putfield 7, 3) := dk_181 0 7 (dk_at dksX6_init_0 6 rfl rfl)
theorem dX6_init_9 : decode cX6_init 9 = .ok (.return_, 1) := dk_177 (dk_at dksX6_init_0 9 rfl rfl)
abbrev MX6_init : jjM := (yX6_init, cX6_init, 2, (Option.none : Option Jvm.ClassFile.FieldType))
theorem npX6_init : yX6_init.cls ≠ "java/lang/invoke/MethodHandle" ∧ yX6_init.cls ≠ "java/lang/invoke/VarHandle" ∧ (parseMethodDescriptor yX6_init.desc).map (fun d => d.parameters.length) = some 1 := by decide +kernel
abbrev cX6_is : ByteArray := prog_9_method_2_code
def yX6_is : MethodName := ⟨RX6, "is", "([I)Z"⟩
def dkwX6_is_0 : List UInt8 := [42, 180, 0, 7, 43, 185, 0, 13, 2, 0, 154, 0, 7, 4, 167, 0, 4, 3, 172]
abbrev dktX6_is_0 : List UInt8 := dkwX6_is_0 ++ []
theorem dksX6_is_0 : cX6_is.data.toList.drop 0 = dktX6_is_0 := by decide +kernel
theorem dX6_is_0 : decode cX6_is 0 = .ok (.aload_n 0, 1) := dk_42 (dk_at dksX6_is_0 0 rfl rfl)
theorem dX6_is_1 : decode cX6_is 1 = .ok (.getfield 7, 3) := dk_180 0 7 (dk_at dksX6_is_0 1 rfl rfl)
theorem dX6_is_4 : decode cX6_is 4 = .ok (.aload_n 1, 1) := dk_43 (dk_at dksX6_is_0 4 rfl rfl)
theorem dX6_is_5 : decode cX6_is 5 = .ok (.invokeinterface 13 2, 5) := by decide +kernel
theorem dX6_is_10 : decode cX6_is 10 = .ok (.ifCond .ne 7, 3) := dk_154 0 7 (dk_at dksX6_is_0 10 rfl rfl)
theorem dX6_is_13 : decode cX6_is 13 = .ok (.iconst 1, 1) := dk_4 (dk_at dksX6_is_0 13 rfl rfl)
theorem dX6_is_14 : decode cX6_is 14 = .ok (.goto 4, 3) := dk_167 0 4 (dk_at dksX6_is_0 14 rfl rfl)
theorem dX6_is_17 : decode cX6_is 17 = .ok (.iconst 0, 1) := dk_3 (dk_at dksX6_is_0 17 rfl rfl)
theorem dX6_is_18 : decode cX6_is 18 = .ok (.ireturn, 1) := dk_172 (dk_at dksX6_is_0 18 rfl rfl)
abbrev MX6_is : jjM := (yX6_is, cX6_is, 2, (Option.some Jvm.ClassFile.FieldType.boolean))
theorem npX6_is : yX6_is.cls ≠ "java/lang/invoke/MethodHandle" ∧ yX6_is.cls ≠ "java/lang/invoke/VarHandle" ∧ (parseMethodDescriptor yX6_is.desc).map (fun d => d.parameters.length) = some 1 := by decide +kernel
abbrev cX7_of : ByteArray := prog_4_method_4_code
def yX7_of : MethodName := ⟨RX7, "of", "([I)J"⟩
def dkwX7_of_6 : List UInt8 := [32, 173]
abbrev dktX7_of_6 : List UInt8 := dkwX7_of_6 ++ []
def dkwX7_of_5 : List UInt8 := [109, 55, 8, 20, 0, 56, 20, 0, 58, 22, 8, 184, 0, 60, 184, 0, 66, 65, 132, 4, 1, 167, 255, 130]
abbrev dktX7_of_5 : List UInt8 := dkwX7_of_5 ++ dktX7_of_6
def dkwX7_of_4 : List UInt8 := [160, 0, 10, 32, 22, 5, 105, 167, 0, 18, 22, 5, 9, 148, 154, 0, 7, 9, 167, 0, 7, 32, 22, 5]
abbrev dktX7_of_4 : List UInt8 := dkwX7_of_4 ++ dktX7_of_5
def dkwX7_of_3 : List UInt8 := [22, 5, 97, 167, 0, 46, 21, 7, 16, 45, 160, 0, 10, 32, 22, 5, 101, 167, 0, 32, 21, 7, 16, 42]
abbrev dktX7_of_3 : List UInt8 := dkwX7_of_3 ++ dktX7_of_4
def dkwX7_of_2 : List UInt8 := [180, 0, 18, 21, 4, 182, 0, 49, 192, 0, 26, 182, 0, 53, 54, 7, 21, 7, 16, 43, 160, 0, 10, 32]
abbrev dktX7_of_2 : List UInt8 := dkwX7_of_2 ++ dktX7_of_3
def dkwX7_of_1 : List UInt8 := [162, 0, 120, 42, 180, 0, 12, 21, 4, 182, 0, 49, 192, 0, 40, 43, 185, 0, 39, 2, 0, 55, 5, 42]
abbrev dktX7_of_1 : List UInt8 := dkwX7_of_1 ++ dktX7_of_2
def dkwX7_of_0 : List UInt8 := [42, 180, 0, 21, 43, 185, 0, 39, 2, 0, 65, 3, 54, 4, 21, 4, 42, 180, 0, 12, 182, 0, 45]
abbrev dktX7_of_0 : List UInt8 := dkwX7_of_0 ++ dktX7_of_1
theorem dksX7_of_0 : cX7_of.data.toList.drop 0 = dktX7_of_0 := by decide +kernel
theorem dksX7_of_1 : cX7_of.data.toList.drop 23 = dktX7_of_1 := dk_seg dksX7_of_0 23 rfl rfl
theorem dksX7_of_2 : cX7_of.data.toList.drop 47 = dktX7_of_2 := dk_seg dksX7_of_1 24 rfl rfl
theorem dksX7_of_3 : cX7_of.data.toList.drop 71 = dktX7_of_3 := dk_seg dksX7_of_2 24 rfl rfl
theorem dksX7_of_4 : cX7_of.data.toList.drop 95 = dktX7_of_4 := dk_seg dksX7_of_3 24 rfl rfl
theorem dksX7_of_5 : cX7_of.data.toList.drop 119 = dktX7_of_5 := dk_seg dksX7_of_4 24 rfl rfl
theorem dksX7_of_6 : cX7_of.data.toList.drop 143 = dktX7_of_6 := dk_seg dksX7_of_5 24 rfl rfl
theorem dX7_of_0 : decode cX7_of 0 = .ok (.aload_n 0, 1) := dk_42 (dk_at dksX7_of_0 0 rfl rfl)
theorem dX7_of_1 : decode cX7_of 1 = .ok (.getfield 21, 3) := dk_180 0 21 (dk_at dksX7_of_0 1 rfl rfl)
theorem dX7_of_4 : decode cX7_of 4 = .ok (.aload_n 1, 1) := dk_43 (dk_at dksX7_of_0 4 rfl rfl)
theorem dX7_of_5 : decode cX7_of 5 = .ok (.invokeinterface 39 2, 5) := by decide +kernel
theorem dX7_of_10 : decode cX7_of 10 = .ok (.lstore_n 2, 1) := dk_65 (dk_at dksX7_of_0 10 rfl rfl)
theorem dX7_of_11 : decode cX7_of 11 = .ok (.iconst 0, 1) := dk_3 (dk_at dksX7_of_0 11 rfl rfl)
theorem dX7_of_12 : decode cX7_of 12 = .ok (.istore 4, 2) := dk_54 4 (dk_at dksX7_of_0 12 rfl rfl)
theorem dX7_of_14 : decode cX7_of 14 = .ok (.iload 4, 2) := dk_21 4 (dk_at dksX7_of_0 14 rfl rfl)
theorem dX7_of_16 : decode cX7_of 16 = .ok (.aload_n 0, 1) := dk_42 (dk_at dksX7_of_0 16 rfl rfl)
theorem dX7_of_17 : decode cX7_of 17 = .ok (.getfield 12, 3) := dk_180 0 12 (dk_at dksX7_of_0 17 rfl rfl)
theorem dX7_of_20 : decode cX7_of 20 = .ok (.invokevirtual 45, 3) := dk_182 0 45 (dk_at dksX7_of_0 20 rfl rfl)
theorem dX7_of_23 : decode cX7_of 23 = .ok (.if_icmp .ge 120, 3) := dk_162 0 120 (dk_at dksX7_of_1 0 rfl rfl)
theorem dX7_of_26 : decode cX7_of 26 = .ok (.aload_n 0, 1) := dk_42 (dk_at dksX7_of_1 3 rfl rfl)
theorem dX7_of_27 : decode cX7_of 27 = .ok (.getfield 12, 3) := dk_180 0 12 (dk_at dksX7_of_1 4 rfl rfl)
theorem dX7_of_30 : decode cX7_of 30 = .ok (.iload 4, 2) := dk_21 4 (dk_at dksX7_of_1 7 rfl rfl)
theorem dX7_of_32 : decode cX7_of 32 = .ok (.invokevirtual 49, 3) := dk_182 0 49 (dk_at dksX7_of_1 9 rfl rfl)
theorem dX7_of_35 : decode cX7_of 35 = .ok (.checkcast 40, 3) := dk_192 0 40 (dk_at dksX7_of_1 12 rfl rfl)
theorem dX7_of_38 : decode cX7_of 38 = .ok (.aload_n 1, 1) := dk_43 (dk_at dksX7_of_1 15 rfl rfl)
theorem dX7_of_39 : decode cX7_of 39 = .ok (.invokeinterface 39 2, 5) := by decide +kernel
theorem dX7_of_44 : decode cX7_of 44 = .ok (.lstore 5, 2) := dk_55 5 (dk_at dksX7_of_1 21 rfl rfl)
theorem dX7_of_46 : decode cX7_of 46 = .ok (.aload_n 0, 1) := dk_42 (dk_at dksX7_of_1 23 rfl rfl)
theorem dX7_of_47 : decode cX7_of 47 = .ok (.getfield 18, 3) := dk_180 0 18 (dk_at dksX7_of_2 0 rfl rfl)
theorem dX7_of_50 : decode cX7_of 50 = .ok (.iload 4, 2) := dk_21 4 (dk_at dksX7_of_2 3 rfl rfl)
theorem dX7_of_52 : decode cX7_of 52 = .ok (.invokevirtual 49, 3) := dk_182 0 49 (dk_at dksX7_of_2 5 rfl rfl)
theorem dX7_of_55 : decode cX7_of 55 = .ok (.checkcast 26, 3) := dk_192 0 26 (dk_at dksX7_of_2 8 rfl rfl)
theorem dX7_of_58 : decode cX7_of 58 = .ok (.invokevirtual 53, 3) := dk_182 0 53 (dk_at dksX7_of_2 11 rfl rfl)
theorem dX7_of_61 : decode cX7_of 61 = .ok (.istore 7, 2) := dk_54 7 (dk_at dksX7_of_2 14 rfl rfl)
theorem dX7_of_63 : decode cX7_of 63 = .ok (.iload 7, 2) := dk_21 7 (dk_at dksX7_of_2 16 rfl rfl)
theorem dX7_of_65 : decode cX7_of 65 = .ok (.bipush 43, 2) := dk_16 43 (dk_at dksX7_of_2 18 rfl rfl)
theorem dX7_of_67 : decode cX7_of 67 = .ok (.if_icmp .ne 10, 3) := dk_160 0 10 (dk_at dksX7_of_2 20 rfl rfl)
theorem dX7_of_70 : decode cX7_of 70 = .ok (.lload_n 2, 1) := dk_32 (dk_at dksX7_of_2 23 rfl rfl)
theorem dX7_of_71 : decode cX7_of 71 = .ok (.lload 5, 2) := dk_22 5 (dk_at dksX7_of_3 0 rfl rfl)
theorem dX7_of_73 : decode cX7_of 73 = .ok (.ladd, 1) := dk_97 (dk_at dksX7_of_3 2 rfl rfl)
theorem dX7_of_74 : decode cX7_of 74 = .ok (.goto 46, 3) := dk_167 0 46 (dk_at dksX7_of_3 3 rfl rfl)
theorem dX7_of_77 : decode cX7_of 77 = .ok (.iload 7, 2) := dk_21 7 (dk_at dksX7_of_3 6 rfl rfl)
theorem dX7_of_79 : decode cX7_of 79 = .ok (.bipush 45, 2) := dk_16 45 (dk_at dksX7_of_3 8 rfl rfl)
theorem dX7_of_81 : decode cX7_of 81 = .ok (.if_icmp .ne 10, 3) := dk_160 0 10 (dk_at dksX7_of_3 10 rfl rfl)
theorem dX7_of_84 : decode cX7_of 84 = .ok (.lload_n 2, 1) := dk_32 (dk_at dksX7_of_3 13 rfl rfl)
theorem dX7_of_85 : decode cX7_of 85 = .ok (.lload 5, 2) := dk_22 5 (dk_at dksX7_of_3 14 rfl rfl)
theorem dX7_of_87 : decode cX7_of 87 = .ok (.lsub, 1) := dk_101 (dk_at dksX7_of_3 16 rfl rfl)
theorem dX7_of_88 : decode cX7_of 88 = .ok (.goto 32, 3) := dk_167 0 32 (dk_at dksX7_of_3 17 rfl rfl)
theorem dX7_of_91 : decode cX7_of 91 = .ok (.iload 7, 2) := dk_21 7 (dk_at dksX7_of_3 20 rfl rfl)
theorem dX7_of_93 : decode cX7_of 93 = .ok (.bipush 42, 2) := dk_16 42 (dk_at dksX7_of_3 22 rfl rfl)
theorem dX7_of_95 : decode cX7_of 95 = .ok (.if_icmp .ne 10, 3) := dk_160 0 10 (dk_at dksX7_of_4 0 rfl rfl)
theorem dX7_of_98 : decode cX7_of 98 = .ok (.lload_n 2, 1) := dk_32 (dk_at dksX7_of_4 3 rfl rfl)
theorem dX7_of_99 : decode cX7_of 99 = .ok (.lload 5, 2) := dk_22 5 (dk_at dksX7_of_4 4 rfl rfl)
theorem dX7_of_101 : decode cX7_of 101 = .ok (.lmul, 1) := dk_105 (dk_at dksX7_of_4 6 rfl rfl)
theorem dX7_of_102 : decode cX7_of 102 = .ok (.goto 18, 3) := dk_167 0 18 (dk_at dksX7_of_4 7 rfl rfl)
theorem dX7_of_105 : decode cX7_of 105 = .ok (.lload 5, 2) := dk_22 5 (dk_at dksX7_of_4 10 rfl rfl)
theorem dX7_of_107 : decode cX7_of 107 = .ok (.lconst 0, 1) := dk_9 (dk_at dksX7_of_4 12 rfl rfl)
theorem dX7_of_108 : decode cX7_of 108 = .ok (.lcmp, 1) := dk_148 (dk_at dksX7_of_4 13 rfl rfl)
theorem dX7_of_109 : decode cX7_of 109 = .ok (.ifCond .ne 7, 3) := dk_154 0 7 (dk_at dksX7_of_4 14 rfl rfl)
theorem dX7_of_112 : decode cX7_of 112 = .ok (.lconst 0, 1) := dk_9 (dk_at dksX7_of_4 17 rfl rfl)
theorem dX7_of_113 : decode cX7_of 113 = .ok (.goto 7, 3) := dk_167 0 7 (dk_at dksX7_of_4 18 rfl rfl)
theorem dX7_of_116 : decode cX7_of 116 = .ok (.lload_n 2, 1) := dk_32 (dk_at dksX7_of_4 21 rfl rfl)
theorem dX7_of_117 : decode cX7_of 117 = .ok (.lload 5, 2) := dk_22 5 (dk_at dksX7_of_4 22 rfl rfl)
theorem dX7_of_119 : decode cX7_of 119 = .ok (.ldiv, 1) := dk_109 (dk_at dksX7_of_5 0 rfl rfl)
theorem dX7_of_120 : decode cX7_of 120 = .ok (.lstore 8, 2) := dk_55 8 (dk_at dksX7_of_5 1 rfl rfl)
theorem dX7_of_122 : decode cX7_of 122 = .ok (.ldc2_w 56, 3) := dk_20 0 56 (dk_at dksX7_of_5 3 rfl rfl)
theorem dX7_of_125 : decode cX7_of 125 = .ok (.ldc2_w 58, 3) := dk_20 0 58 (dk_at dksX7_of_5 6 rfl rfl)
theorem dX7_of_128 : decode cX7_of 128 = .ok (.lload 8, 2) := dk_22 8 (dk_at dksX7_of_5 9 rfl rfl)
theorem dX7_of_130 : decode cX7_of 130 = .ok (.invokestatic 60, 3) := dk_184 0 60 (dk_at dksX7_of_5 11 rfl rfl)
theorem dX7_of_133 : decode cX7_of 133 = .ok (.invokestatic 66, 3) := dk_184 0 66 (dk_at dksX7_of_5 14 rfl rfl)
theorem dX7_of_136 : decode cX7_of 136 = .ok (.lstore_n 2, 1) := dk_65 (dk_at dksX7_of_5 17 rfl rfl)
theorem dX7_of_137 : decode cX7_of 137 = .ok (.iinc 4 1, 3) := dk_132 4 1 (dk_at dksX7_of_5 18 rfl rfl)
theorem dX7_of_140 : decode cX7_of 140 = .ok (.goto (-126), 3) := dk_167 255 130 (dk_at dksX7_of_5 21 rfl rfl)
theorem dX7_of_143 : decode cX7_of 143 = .ok (.lload_n 2, 1) := dk_32 (dk_at dksX7_of_6 0 rfl rfl)
theorem dX7_of_144 : decode cX7_of 144 = .ok (.lreturn, 1) := dk_173 (dk_at dksX7_of_6 1 rfl rfl)
abbrev MX7_of : jjM := (yX7_of, cX7_of, 10, (Option.some Jvm.ClassFile.FieldType.long))
theorem npX7_of : yX7_of.cls ≠ "java/lang/invoke/MethodHandle" ∧ yX7_of.cls ≠ "java/lang/invoke/VarHandle" ∧ (parseMethodDescriptor yX7_of.desc).map (fun d => d.parameters.length) = some 1 := by decide +kernel
abbrev cX7_init : ByteArray := prog_4_method_1_code
def yX7_init : MethodName := ⟨RX7, "<init>", "(LSelfSorting$Sum;)V"⟩
def dkwX7_init_1 : List UInt8 := [181, 0, 18, 42, 43, 181, 0, 21, 177]
abbrev dktX7_init_1 : List UInt8 := dkwX7_init_1 ++ []
def dkwX7_init_0 : List UInt8 := [42, 183, 0, 3, 42, 187, 0, 9, 89, 183, 0, 11, 181, 0, 12, 42, 187, 0, 9, 89, 183, 0, 11]
abbrev dktX7_init_0 : List UInt8 := dkwX7_init_0 ++ dktX7_init_1
theorem dksX7_init_0 : cX7_init.data.toList.drop 0 = dktX7_init_0 := by decide +kernel
theorem dksX7_init_1 : cX7_init.data.toList.drop 23 = dktX7_init_1 := dk_seg dksX7_init_0 23 rfl rfl
theorem dX7_init_0 : decode cX7_init 0 = .ok (.aload_n 0, 1) := dk_42 (dk_at dksX7_init_0 0 rfl rfl)
theorem dX7_init_1 : decode cX7_init 1 = .ok (.invokespecial 3, 3) := dk_183 0 3 (dk_at dksX7_init_0 1 rfl rfl)
theorem dX7_init_4 : decode cX7_init 4 = .ok (.aload_n 0, 1) := dk_42 (dk_at dksX7_init_0 4 rfl rfl)
theorem dX7_init_5 : decode cX7_init 5 = .ok (.new 9, 3) := dk_187 0 9 (dk_at dksX7_init_0 5 rfl rfl)
theorem dX7_init_8 : decode cX7_init 8 = .ok (.dup, 1) := dk_89 (dk_at dksX7_init_0 8 rfl rfl)
theorem dX7_init_9 : decode cX7_init 9 = .ok (.invokespecial 11, 3) := dk_183 0 11 (dk_at dksX7_init_0 9 rfl rfl)
theorem dX7_init_12 : decode cX7_init 12 = .ok (.putfield 12, 3) := dk_181 0 12 (dk_at dksX7_init_0 12 rfl rfl)
theorem dX7_init_15 : decode cX7_init 15 = .ok (.aload_n 0, 1) := dk_42 (dk_at dksX7_init_0 15 rfl rfl)
theorem dX7_init_16 : decode cX7_init 16 = .ok (.new 9, 3) := dk_187 0 9 (dk_at dksX7_init_0 16 rfl rfl)
theorem dX7_init_19 : decode cX7_init 19 = .ok (.dup, 1) := dk_89 (dk_at dksX7_init_0 19 rfl rfl)
theorem dX7_init_20 : decode cX7_init 20 = .ok (.invokespecial 11, 3) := dk_183 0 11 (dk_at dksX7_init_0 20 rfl rfl)
theorem dX7_init_23 : decode cX7_init 23 = .ok (.putfield 18, 3) := dk_181 0 18 (dk_at dksX7_init_1 0 rfl rfl)
theorem dX7_init_26 : decode cX7_init 26 = .ok (.aload_n 0, 1) := dk_42 (dk_at dksX7_init_1 3 rfl rfl)
theorem dX7_init_27 : decode cX7_init 27 = .ok (.aload_n 1, 1) := dk_43 (dk_at dksX7_init_1 4 rfl rfl)
theorem dX7_init_28 : decode cX7_init 28 = .ok (.putfield 21, 3) := dk_181 0 21 (dk_at dksX7_init_1 5 rfl rfl)
theorem dX7_init_31 : decode cX7_init 31 = .ok (.return_, 1) := dk_177 (dk_at dksX7_init_1 8 rfl rfl)
abbrev MX7_init : jjM := (yX7_init, cX7_init, 2, (Option.none : Option Jvm.ClassFile.FieldType))
theorem npX7_init : yX7_init.cls ≠ "java/lang/invoke/MethodHandle" ∧ yX7_init.cls ≠ "java/lang/invoke/VarHandle" ∧ (parseMethodDescriptor yX7_init.desc).map (fun d => d.parameters.length) = some 1 := by decide +kernel
